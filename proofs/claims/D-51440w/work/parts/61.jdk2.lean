/-! THE JDK, 2: hash maps: looking up -/
/-- a chain of nodes -/
def Chn (G : GH) : Option Nat → List Nat → Prop
  | r, [] => r = none
  | r, a :: l => r = some a ∧ Chn G (fR G 146 a) l
def NodeK (G : GH) (a : Nat) : Prop := gK G a = 19 ∨ gK G a = 20
def binOf (cap : Nat) (hc : Int) : Nat := (iand ((cap : Int) - 1) hc).toNat
/-- a map: its row t of cap bins, the nodes of each -/
def HM (G : GH) (h t cap : Nat) (bins : Nat → List Nat) : Prop :=
  (gK G h = 12 ∨ gK G h = 14) ∧ h < gn G ∧ fR G 120 h = some t ∧ gK G t = 109 ∧ gL G t = cap ∧ gP G t = h ∧ t < gn G ∧ (cap = 16 ∨ cap = 32 ∨ cap = 64) ∧
    ∀ i, i < cap → Chn G (aR G t i) (bins i) ∧ ∀ a ∈ bins i, NodeK G a ∧ gP G a = h ∧ a < gn G ∧ inR (fI G 143 a) ∧ binOf cap (fI G 143 a) = i
theorem Chn.congr {G G' : GH} : ∀ (l : List Nat) (r : Option Nat), Chn G r l → (∀ a ∈ l, fR G' 146 a = fR G 146 a) → Chn G' r l := by
  intro l
  induction l with
  | nil => intro r h _; exact h
  | cons a l ih =>
    intro r h k
    refine ⟨h.1, ?_⟩
    rw [k a List.mem_cons_self]
    exact ih _ h.2 (fun b hb => k b (List.mem_cons_of_mem _ hb))
theorem HM.md {P : Nat → Prop} {G G' : GH} {h t cap : Nat} {bins : Nat → List Nat} (H : HM G h t cap bins) (m : Md P G G') (hp : ∀ c, c < gn G → c = h ∨ (gP G c = h ∧ (gK G c = 109 ∨ NodeK G c)) → ¬ P c) : HM G' h t cap bins := by
  obtain ⟨h1, h2, h3, h4, h5, h6, h7, h8, h9⟩ := H
  obtain ⟨s1, s2, s3, s4, s5⟩ := m.sm h2 (hp h h2 (Or.inl rfl))
  obtain ⟨t1, t2, t3, t4, t5⟩ := m.sm h7 (hp t h7 (Or.inr ⟨h6, Or.inl h4⟩))
  refine ⟨by rw [s1]; exact h1, Nat.lt_of_lt_of_le h2 m.1, (s4 120).2.trans h3, t1.trans h4, t2.trans h5, t3.trans h6, Nat.lt_of_lt_of_le h7 m.1, h8, fun i hi => ?_⟩
  obtain ⟨c1, c2⟩ := h9 i hi
  have sm : ∀ a ∈ bins i, SmA G G' a := fun a ha => by
    obtain ⟨n1, n2, n3, -⟩ := c2 a ha
    exact m.sm n3 (hp a n3 (Or.inr ⟨n2, Or.inr n1⟩))
  refine ⟨?_, fun a ha => ?_⟩
  · rw [(t5 i).2]
    exact Chn.congr _ _ c1 (fun a ha => ((sm a ha).2.2.2.1 146).2)
  · obtain ⟨n1, n2, n3, n4, n5⟩ := c2 a ha
    obtain ⟨q1, q2, q3, q4, q5⟩ := sm a ha
    refine ⟨by unfold NodeK; rw [q1]; exact n1, q3.trans n2, Nat.lt_of_lt_of_le n3 m.1, ?_, ?_⟩
    · rw [(q4 143).1]; exact n4
    · rw [(q4 143).1]; exact n5
theorem nodeK_f {G : GH} {a : Nat} (h : NodeK G a) : kfb (gK G a) 143 = true ∧ kfb (gK G a) 144 = true ∧ kfb (gK G a) 145 = true ∧ kfb (gK G a) 146 = true := by
  rcases h with h | h <;> (rw [h]; decide +kernel)
theorem nodeK_w {G : GH} {a : Nat} (h : NodeK G a) : kwb (gK G a) 143 = true ∧ kwb (gK G a) 144 = true ∧ kwb (gK G a) 145 = true ∧ kwb (gK G a) 146 = true := by
  rcases h with h | h <;> (rw [h]; decide +kernel)
theorem mapK_f {k : Nat} (h : k = 12 ∨ k = 14) : kfb k 120 = true ∧ kfb k 122 = true ∧ kfb k 123 = true ∧ kfb k 124 = true ∧ kwb k 120 = true ∧ kwb k 122 = true ∧ kwb k 123 = true ∧ kwb k 124 = true := by
  rcases h with h | h <;> (rw [h]; decide +kernel)
def KeyK (G : GH) (k : Nat) : Prop := gK G k = 3 ∨ gK G k = 516 ∨ gK G k = 17 ∨ gK G k = 517
/-- k is a key whose (spread) hash is hc -/
def KeyH (Z : ZT) (d : Nat) (G : GH) (k : Nat) (hc : Int) (R : GH → Prop) : Prop := KeyK G k ∧ k < gn G ∧ inR hc ∧ ∀ Q' : TR → GH → Prop, (∀ G1, Md (fun c => c = k) G G1 → R G1 → gn G1 = gn G → gs G1 = gs G → Q' (.inl (some (tI hc))) G1) → TC Z d mi_J1_hash [tR (some k)] G Q'
/-- the key k is what v is -/
def EqK (Z : ZT) (d : Nat) (G : GH) (k : Nat) (v : Option Nat) : Prop := v = some k ∨ ∀ Q' : TR → GH → Prop, Q' (.inl (some (tI 1))) G → (gK G k = 3 → TC Z d mi_X3_equals [tR (some k), tR v] G Q') ∧ (gK G k = 516 → TC Z d mi_J9_equals [tR (some k), tR v] G Q') ∧ (gK G k = 17 ∨ gK G k = 517 → TC Z d mi_J13_equals [tR (some k), tR v] G Q')
def lookN (G : GH) (l : List Nat) (hc : Int) : Option Nat := l.find? (fun a => decide (fI G 143 a = hc))
theorem iand_cap {cap : Nat} (h : cap = 16 ∨ cap = 32 ∨ cap = 64) (hc : Int) : 0 ≤ iand ((cap : Int) - 1) hc ∧ iand ((cap : Int) - 1) hc < cap := by
  have key : ∀ n : Nat, n < 2 ^ 31 → 0 ≤ iand (n : Int) hc ∧ iand (n : Int) hc ≤ n := by
    intro n hn
    have e : iand (n : Int) hc = ((n &&& (Int32.ofInt hc).toBitVec.toNat : Nat) : Int) := by
      unfold iand
      rw [← Int32.toInt_toBitVec, Int32.toBitVec_and]
      have hb : ((Int32.ofInt (n : Int)).toBitVec &&& (Int32.ofInt hc).toBitVec).toNat = n &&& (Int32.ofInt hc).toBitVec.toNat := by
        rw [BitVec.toNat_and]
        congr 1
        show (BitVec.ofInt 32 (n : Int)).toNat = n
        rw [BitVec.toNat_ofInt]
        omega
      rw [BitVec.toInt_eq_toNat_of_lt]
      · rw [hb]
      · rw [hb]
        have : n &&& (Int32.ofInt hc).toBitVec.toNat ≤ n := Nat.and_le_left
        omega
    have h2 : n &&& (Int32.ofInt hc).toBitVec.toNat ≤ n := Nat.and_le_left
    omega
  have := key (cap - 1) (by omega)
  have e : ((cap - 1 : Nat) : Int) = (cap : Int) - 1 := by omega
  rw [e] at this
  omega
theorem jc_getNode {Z : ZT} {d : Nat} {G : GH} {Q : TR → GH → Prop} {h t cap k : Nat} {bins : Nat → List Nat} {hc : Int} {R : GH → Prop} (H : HM G h t cap bins) (K : KeyH Z (d + 3) G k hc R) (E : ∀ G1, Md (fun c => c = k) G G1 → R G1 → ∀ a ∈ bins (binOf cap hc), fI G 143 a = hc → EqK Z (d + 3) G1 k (fR G 144 a)) (q : ∀ G1, Md (fun c => c = k) G G1 → R G1 → gn G1 = gn G → gs G1 = gs G → Q (.inl (some (tR (lookN G (bins (binOf cap hc)) hc)))) G1) : TC Z (d + 4) mi_J1_getNode [tR (some h), tR (some k)] G Q := by
  obtain ⟨kK, kn, kr, kh⟩ := K
  obtain ⟨h1, h2, h3, h4, h5, h6, h7, h8, h9⟩ := id H
  have ib := iand_cap h8 hc
  have hnot : ∀ c, c < gn G → c = h ∨ (gP G c = h ∧ (gK G c = 109 ∨ NodeK G c)) → ¬ (fun c => c = k) c := by
    intro c _ hc' e
    have e : c = k := e
    subst e
    unfold KeyK at kK
    unfold NodeK at hc'
    rcases hc' with hc' | ⟨-, hc' | hc' | hc'⟩
    · rw [hc'] at kK; omega
    · omega
    · omega
    · omega
  refine c_J1_getNode ⟨(mapK_f h1).1, fun v1 hv1 => ⟨fun hn => ?_, fun a3 ha3 => ?_⟩⟩
  · rw [← hv1, h3] at hn; cases hn
  rw [← hv1, h3] at ha3
  cases ha3
  rw [h5]
  refine ⟨Or.inl h4, by omega, fun hh => by omega, fun _ => kh _ (fun G1 m rr n1 n2 => ?_)⟩
  have H1 := H.md m hnot
  obtain ⟨g1, g2, g3, g4, g5, g6, g7, g8, g9⟩ := H1
  have hb : binOf cap hc < cap := by unfold binOf; omega
  obtain ⟨c1, c2⟩ := g9 (binOf cap hc) hb
  have same : ∀ a ∈ bins (binOf cap hc), fI G1 143 a = fI G 143 a ∧ fR G1 144 a = fR G 144 a := fun a ha => by
    obtain ⟨n1, n2, n3, -⟩ := (h9 (binOf cap hc) hb).2 a ha
    have := m.sm n3 (hnot a n3 (Or.inr ⟨n2, Or.inr n1⟩))
    exact ⟨(this.2.2.2.1 143).1, (this.2.2.2.1 144).2⟩
  have kK1 : KeyK G1 k := by unfold KeyK; rw [m.k kn]; exact kK
  have fin := q G1 m rr n1 n2
  have E := E G1 m rr
  generalize bins (binOf cap hc) = L at c1 c2 same fin E
  have lk : ∀ l, (∀ a ∈ l, a ∈ L) → lookN G l hc = lookN G1 l hc := by
    intro l
    induction l with
    | nil => intro _; rfl
    | cons a l ih =>
      intro hs
      unfold lookN
      simp only [List.find?_cons]
      rw [(same a (hs a List.mem_cons_self)).1]
      have := ih (fun b hb => hs b (List.mem_cons_of_mem _ hb))
      unfold lookN at this
      rw [this]
  have none' : ∀ (o2 : Option Nat) (o3 o4 o5 o6 o7 : Option Value), lookN G L hc = none → TW Z mi_J1_getNode (d + 4) 148 [some (tR (some h)), some (tR (some k)), some (tR o2), o3, o4, o5, o6, o7] [] G1 Q := by
    intro o2 o3 o4 o5 o6 o7 hn
    rw [hn] at fin
    exact r_J1_getNode_148 fin
  have rest : ∀ (l : List Nat) (a r3 : Nat) (o2 : Option Nat) (n : Int) (o7 : Option Value), (∀ b ∈ a :: l, b ∈ L) → Chn G1 (some a) (a :: l) → lookN G L hc = lookN G1 (a :: l) hc → TW Z mi_J1_getNode (d + 4) 99 [some (tR (some h)), some (tR (some k)), some (tR o2), some (tR (some r3)), some (tR (some a)), some (tI n), some (tI hc), o7] [] G1 Q := by
    intro l
    induction l with
    | nil =>
      intro a r3 o2 n o7 hs hch he
      obtain ⟨n1, n2, n3, n4, n5⟩ := c2 a (hs a List.mem_cons_self)
      obtain ⟨f1, f2, f3, f4⟩ := nodeK_f n1
      have hnx : fR G1 146 a = none := hch.2
      refine r_J1_getNode_99 ⟨a, rfl, f1, n4, kr, fun hne => ⟨a, rfl, f4, fun v hv => ⟨fun _ => none' _ _ _ _ _ _ ?_, fun a8 ha8 => ?_⟩⟩, fun heq => ⟨a, rfl, f2, fun v hv => ⟨fun hvk => ?_, fun hvk => ⟨fun hn => (by cases hn), fun a15 ha15 => ?_⟩⟩⟩⟩
      · rw [he]; unfold lookN; simp [List.find?_cons, hne]
      · rw [← hv, hnx] at ha8; cases ha8
      · have : lookN G L hc = some a := by rw [he]; unfold lookN; simp [List.find?_cons, heq]
        rw [this] at fin; exact fin
      · cases ha15
        have hl : lookN G L hc = some a := by rw [he]; unfold lookN; simp [List.find?_cons, heq]
        have s := same a (hs a List.mem_cons_self)
        have eq := E a (hs a List.mem_cons_self) (by rw [← s.1]; exact heq)
        rw [← s.2, hv] at eq
        rcases eq with eq | eq
        · exact absurd eq hvk
        · rw [hl] at fin
          obtain ⟨x1, x2, x3⟩ := eq (KQ Z mi_J1_getNode (d + 4) 128 131 [some (tR (some h)), some (tR (some k)), some (tR o2), some (tR (some r3)), some (tR (some a)), some (tI n), some (tI hc), some (tR v)] [] Q) (r_J1_getNode_131 ⟨by decide, fun hh => absurd hh (by decide), fun _ => fin⟩)
          exact ⟨kK1, x1, x2, x3⟩
    | cons b l ih =>
      intro a r3 o2 n o7 hs hch he
      obtain ⟨n1, n2, n3, n4, n5⟩ := c2 a (hs a List.mem_cons_self)
      obtain ⟨f1, f2, f3, f4⟩ := nodeK_f n1
      have hnx : fR G1 146 a = some b := hch.2.1
      refine r_J1_getNode_99 ⟨a, rfl, f1, n4, kr, fun hne => ⟨a, rfl, f4, fun v hv => ⟨fun hn => ?_, fun a8 ha8 => ?_⟩⟩, fun heq => ⟨a, rfl, f2, fun v hv => ⟨fun hvk => ?_, fun hvk => ⟨fun hn => (by cases hn), fun a15 ha15 => ?_⟩⟩⟩⟩
      · rw [← hv, hnx] at hn; cases hn
      · rw [← hv, hnx] at ha8
        cases ha8
        refine ih b r3 o2 n o7 (fun x hx => hs x (List.mem_cons_of_mem _ hx)) ⟨rfl, hch.2.2⟩ ?_
        rw [he]; unfold lookN; rw [List.find?_cons]; simp [hne]
      · have : lookN G L hc = some a := by rw [he]; unfold lookN; rw [List.find?_cons]; simp [heq]
        rw [this] at fin; exact fin
      · cases ha15
        have hl : lookN G L hc = some a := by rw [he]; unfold lookN; rw [List.find?_cons]; simp [heq]
        have s := same a (hs a List.mem_cons_self)
        have eq := E a (hs a List.mem_cons_self) (by rw [← s.1]; exact heq)
        rw [← s.2, hv] at eq
        rcases eq with eq | eq
        · exact absurd eq hvk
        · rw [hl] at fin
          obtain ⟨x1, x2, x3⟩ := eq (KQ Z mi_J1_getNode (d + 4) 128 131 [some (tR (some h)), some (tR (some k)), some (tR o2), some (tR (some r3)), some (tR (some a)), some (tI n), some (tI hc), some (tR v)] [] Q) (r_J1_getNode_131 ⟨by decide, fun hh => absurd hh (by decide), fun _ => fin⟩)
          exact ⟨kK1, x1, x2, x3⟩
  have gib : iand ((cap : Int) - 1) hc = ((binOf cap hc : Nat) : Int) := by unfold binOf; omega
  refine r_J1_getNode_26 ⟨t, rfl, Or.inl g4, by rw [g5]; exact ib, fun v3 hv3 => ⟨fun hn => none' _ _ _ _ _ _ ?_, fun a5 ha5 => ?_⟩⟩
  · rw [gib, Int.toNat_natCast] at hv3
    cases L with
    | nil => rfl
    | cons a l => rw [← hv3, c1.1] at hn; cases hn
  · rw [gib, Int.toNat_natCast] at hv3
    cases L with
    | nil =>
      have c1 : aR G1 t (binOf cap hc) = none := c1
      rw [← hv3, c1] at ha5; cases ha5
    | cons a l =>
      have ea : a5 = a := by rw [← hv3, c1.1] at ha5; cases ha5; rfl
      subst ea
      obtain ⟨n1, n2, n3, n4, n5⟩ := c2 a5 List.mem_cons_self
      obtain ⟨f1, f2, f3, f4⟩ := nodeK_f n1
      have he0 := lk (a5 :: l) (fun b hb => hb)
      refine ⟨f1, n4, kr, fun hne => ⟨f4, fun v8 hv8 => ⟨fun hn => none' _ _ _ _ _ _ ?_, fun a10 ha10 => ⟨n1, ?_⟩⟩⟩, fun heq => ⟨f2, fun v12 hv12 => ⟨fun hvk => ?_, fun hvk => ⟨fun hn => (by cases hn), fun a15 ha15 => ?_⟩⟩⟩⟩
      · rw [he0]
        unfold lookN
        rw [List.find?_cons]
        cases l with
        | nil => simp [hne]
        | cons b l => rw [← hv8, c1.2.1] at hn; cases hn
      · cases l with
        | nil =>
          have c12 : fR G1 146 a5 = none := c1.2
          rw [← hv8, c12] at ha10; cases ha10
        | cons b l =>
          have eb : a10 = b := by rw [← hv8, c1.2.1] at ha10; cases ha10; rfl
          subst eb
          refine rest l a10 a5 _ _ _ (fun x hx => List.mem_cons_of_mem _ hx) ⟨rfl, c1.2.2⟩ ?_
          rw [he0]; unfold lookN; rw [List.find?_cons]; simp [hne]
      · have : lookN G (a5 :: l) hc = some a5 := by rw [he0]; unfold lookN; rw [List.find?_cons]; simp [heq]
        rw [this] at fin; exact fin
      · cases ha15
        have hl : lookN G (a5 :: l) hc = some a5 := by rw [he0]; unfold lookN; rw [List.find?_cons]; simp [heq]
        have s := same a5 List.mem_cons_self
        have eq := E a5 List.mem_cons_self (by rw [← s.1]; exact heq)
        rw [← s.2, hv12] at eq
        rcases eq with eq | eq
        · exact absurd eq hvk
        · rw [hl] at fin
          obtain ⟨x1, x2, x3⟩ := eq (KQ Z mi_J1_getNode (d + 4) 63 66 [some (tR (some h)), some (tR (some k)), some (tR (some t)), some (tR (some a5)), none, some (tI (cap : Int)), some (tI hc), some (tR v12)] [] Q) (r_J1_getNode_66 ⟨by decide, fun hh => absurd hh (by decide), fun _ => fin⟩)
          exact ⟨kK1, x1, x2, x3⟩
theorem jc_mget {Z : ZT} {d : Nat} {G : GH} {Q : TR → GH → Prop} {h t cap k : Nat} {bins : Nat → List Nat} {hc : Int} {R : GH → Prop} (H : HM G h t cap bins) (K : KeyH Z (d + 3) G k hc R) (E : ∀ G1, Md (fun c => c = k) G G1 → R G1 → ∀ a ∈ bins (binOf cap hc), fI G 143 a = hc → EqK Z (d + 3) G1 k (fR G 144 a)) (q : ∀ G1, Md (fun c => c = k) G G1 → R G1 → gn G1 = gn G → gs G1 = gs G → Q (.inl (some (tR (match lookN G (bins (binOf cap hc)) hc with | none => none | some a => fR G 145 a)))) G1) : TC Z (d + 5) mi_J1_get [tR (some h), tR (some k)] G Q := by
  obtain ⟨h1, h2, h3, h4, h5, h6, h7, h8, h9⟩ := id H
  have kK := K.1
  refine c_J1_get ⟨h1, fun _ => jc_getNode H K E (fun G1 m rr n1 n2 => r_J1_get_5 ⟨fun hn => ?_, fun a ha => ?_⟩)⟩
  · have := q G1 m rr n1 n2
    rw [hn] at this
    exact this
  · have fin := q G1 m rr n1 n2
    rw [ha] at fin
    have hm : a ∈ bins (binOf cap hc) := List.mem_of_find?_eq_some ha
    have hb : binOf cap hc < cap := by have := iand_cap h8 hc; unfold binOf; omega
    obtain ⟨n1', n2', n3', -⟩ := (h9 (binOf cap hc) hb).2 a hm
    have hne : a ≠ k := fun e => by
      subst e
      unfold KeyK at kK
      unfold NodeK at n1'
      omega
    have s := m.sm n3' hne
    have nk1 : NodeK G1 a := by unfold NodeK; rw [s.1]; exact n1'
    refine ⟨(nodeK_f nk1).2.2.1, fun v3 hv3 => ?_⟩
    rw [(s.2.2.2.1 145).2] at hv3
    rw [← hv3]
    exact fin
