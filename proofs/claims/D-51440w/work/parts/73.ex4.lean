/-! THE EXCHANGE, 4: walks and chains -/
section EXW
variable {Z : ZT} {d : Nat} {G : GH} {Q : TR → GH → Prop} {e b : Nat} {S T : St}
theorem EnvA.md {P : Nat → Prop} {G' : GH} (h : EnvA Z G) (m : Md P G G') : EnvA Z G' := by
  obtain ⟨h1, h2, h3, h4, h5, h6⟩ := h
  exact ⟨(m.k h5).trans h1, (m.l h5).trans h2, (m.k h6).trans h3, (m.l h6).trans h4, Nat.lt_of_lt_of_le h5 m.1, Nat.lt_of_lt_of_le h6 m.1⟩
theorem ke9 : KE 9 "java/lang/Object" := ⟨8, _, Or.inl rfl, rfl, Or.inr q3524⟩
theorem endS_nat (V : Inv S) {c : Nat} (hc : c < (S 0 47).toNat) (g : Bool) : ∃ n : Nat, endS S c g = (n : Int) ∧ n ≤ 5 ∧ (n : Int) < S 0 38 := by
  have h := stage_lt V hc g
  have r := V.r38
  exact ⟨(endS S c g).toNat, by omega, by omega, by omega⟩
/-- a list that owns itself is kept by all that touches nothing frozen -/
theorem AL.fp {P : Nat → Prop} {G' : GH} {a : Nat} {l : List Nat} (h : AL Z G a l) (pa : gP G a = a) (m : Md P G G') (hp : FP G P) : AL Z G' a l :=
  h.md m (fun c hc hh => by
    rcases hh with hh | ⟨hh, -⟩
    · rw [hh]; exact hp.root h.2.1 pa
    · exact hp c ⟨hc, by rw [hh]; exact h.2.1, by rw [hh]; exact pa⟩)
/-- from a heap with all owners below, a part that is new may change -/
theorem Md.tmp {P : Nat → Prop} {A B C : GH} {a : Nat} (h : Md P A B) (k : Md (Ow B a) B C) (ow : OW A) (ha : gn A ≤ a) : Md P A C :=
  h.trans' k (fun c hc ho => by
    exfalso
    rcases ho with ho | ho
    · omega
    · rw [h.p hc] at ho
      have := ow c hc
      omega)
theorem Rep.k9 (R : Rep Z G e b S T) : gK G (b + 9) = 3 ∧ b + 9 < gn G ∧ gP G (b + 9) = e := ⟨R.1.2.2.2.2.2.2.2.2.2.2.2.2.2.2.2.2.2.1, by have := R.1.2.2.2.1; omega, R.1.2.2.2.2.2.2.1 9 (by decide) (by decide)⟩
theorem car_rng {m v : Int} {g : Bool} : -1 ≤ carriedAt S m v g ∧ carriedAt S m v g < (S 0 47).toNat ∨ carriedAt S m v g = -1 := by
  by_cases h : carriedAt S m v g = -1
  · exact Or.inr h
  · have rg := fnd_rng (p := fun c => decide (S 51 c = m ∧ endS S c g = v)) (S 0 47).toNat 0
    have := (carriedAt_some (S := S) (m := m) (v := v) (b := g) (x := (carriedAt S m v g).toNat) (by unfold carriedAt at h ⊢; omega)).1
    refine Or.inl ⟨?_, ?_⟩ <;> unfold carriedAt at * <;> omega
/-- walking a chain -/
theorem xc_walk {p q i j : Nat} {first : Bool} (V : Inv S) (R : Rep Z G e b S S) (hE : EnvA Z G) (ow : OW G) (hz : Fz G) (hp : (p : Int) < S 0 40) (hq : (q : Int) < S 0 40) (hi : i ≤ 5) (hj : j ≤ 5) (hl : (walkS S (p : Int) (q : Int) (i : Int) (j : Int) first).length ≤ 10)
    (qq : ∀ G' a, Md (fun c => c = b + 9) G G' → gn G' ≤ gn G + 2 → gs G' ≤ gs G + 13 → gn G ≤ a → gP G' a = a → AL Z G' a ((walkS S (p : Int) (q : Int) (i : Int) (j : Int) first).map (callA G b S)) → Q (.inl (some (tR (some a)))) G') :
    TC Z (d + 7) mi_X2_walk [tR (some e), tI (p : Int), tI (q : Int), tI ((first.toNat : Nat) : Int), tI (i : Int), tI (j : Int)] G Q := by
  have r40 := V.r40
  have loop : ∀ (r : Nat) (c : Int) (g : Bool) (pre : List Nat) (G1 : GH) (a : Nat) (o9 o10 : Option Value), Md (fun c => c = b + 9) G G1 → gn G1 ≤ gn G + 2 → gs G1 ≤ gs G + 13 → (pre = [] → gn G1 = gn G + 1 ∧ gs G1 = gs G + 3) → gn G ≤ a → gP G1 a = a → AL Z G1 a (pre.map (callA G b S)) →
      (-1 ≤ c ∧ c < (S 0 47).toNat ∨ c = -1) → pre ++ walkL S (p : Int) (q : Int) r c g = walkS S (p : Int) (q : Int) (i : Int) (j : Int) first → 11 ≤ pre.length + r →
      TW Z mi_X2_walk (d + 7) 45 [some (tR (some e)), some (tI (p : Int)), some (tI (q : Int)), some (tI ((first.toNat : Nat) : Int)), some (tI (i : Int)), some (tI (j : Int)), some (tR (some a)), some (tR (if c = -1 then none else some (callA G b S c.toNat))), some (tI ((g.toNat : Nat) : Int)), o9, o10] [] G1 Q := by
    intro r
    induction r with
    | zero =>
      intro c g pre G1 a o9 o10 m n1 s1 h0 ha pa A hc hw hr
      have : pre ++ [] = walkS S (p : Int) (q : Int) (i : Int) (j : Int) first := hw
      rw [List.append_nil] at this
      rw [this] at hr
      omega
    | succ r ih =>
      intro c g pre G1 a o9 o10 m n1 s1 h0 ha pa A hc hw hr
      rw [walkL] at hw
      by_cases hc1 : c = -1
      · rw [if_pos hc1, List.append_nil] at hw
        rw [if_pos hc1]
        refine r_X2_walk_45 ⟨fun _ => ?_, fun a1 ha1 => by cases ha1⟩
        exact qq G1 a m n1 s1 ha pa (by rw [← hw]; exact A)
      · obtain ⟨x, hx⟩ : ∃ x : Nat, c = (x : Int) := ⟨c.toNat, by omega⟩
        subst hx
        have hxN : x < (S 0 47).toNat := by omega
        rw [if_neg hc1, Int.toNat_natCast] at hw
        rw [if_neg hc1, Int.toNat_natCast]
        obtain ⟨R1, -, cA1⟩ := R.m9 m
        have C1 := R1.co hxN
        rw [cA1] at C1
        have lp : pre.length < 10 := by
          have := congrArg List.length hw
          rw [List.length_append, List.length_cons] at this
          omega
        refine r_X2_walk_45 ⟨fun hn => (by cases hn), fun a1 ha1 => ⟨a, rfl, A.1, ?_⟩⟩
        cases ha1
        refine jc_add A (by rw [List.length_map]; exact lp) (by rw [C1.1]; exact ke9) C1.2.2.1 (fun G2 m2 n2 s2 q2 A2 => r_X2_walk_59 ?_)
        have mG2 : Md (fun c => c = b + 9) G G2 := m.tmp m2 ow ha
        have n2' : gn G2 ≤ gn G + 2 ∧ gs G2 ≤ gs G + 13 := by
          by_cases hpe : pre = []
          · have := h0 hpe; omega
          · have := q2 (fun h => hpe (List.map_eq_nil_iff.mp h))
            omega
        obtain ⟨R2, -, cA2⟩ := R.m9 mG2
        have C2 := R2.co hxN
        rw [cA2] at C2
        have A2' : AL Z G2 a ((pre ++ [x]).map (callA G b S)) := by rw [List.map_append]; exact A2
        obtain ⟨ef, hef, hef5, -⟩ := endS_nat V hxN false
        obtain ⟨et, het, het5, -⟩ := endS_nat V hxN true
        have rw' := V.row hxN
        -- the next spot
        have step : ∀ (o n : Nat) (g' : Bool) (i9 i10 : Int), o ≤ 8 → n ≤ 5 → (if S 51 x = (p : Int) then (q : Int) else (p : Int)) = (o : Int) → endS S x g = (n : Int) → g' = g →
            TC Z (d + 6) mi_X2_carriedBy [tR (some e), tI (o : Int), tI (n : Int), tI ((g'.toNat : Nat) : Int)] G2 (KQ Z mi_X2_walk (d + 7) 102 105 [some (tR (some e)), some (tI (p : Int)), some (tI (q : Int)), some (tI ((first.toNat : Nat) : Int)), some (tI (i : Int)), some (tI (j : Int)), some (tR (some a)), some (tR (some (callA G b S x))), some (tI ((g'.toNat : Nat) : Int)), some (tI i9), some (tI i10)] [] Q) := by
          intro o n g' i9 i10 ho hn eo en eg
          subst eg
          refine xc_carriedBy R2 ho hn (fun G3 K3 => ?_) (fun _ hx' => cA_lt SameR.rf hx')
          have mG3 := mG2.trans K3.1
          have pa2 : gP G2 a = a := (m2.p A.2.1).trans pa
          have A3 : AL Z G3 a ((pre ++ [x]).map (callA G b S)) := A2'.fp pa2 K3.1 (fp9 R2.1)
          rw [cA2]
          refine r_X2_walk_105 ?_
          have hw' : (pre ++ [x]) ++ walkL S (p : Int) (q : Int) r (carriedAt S (o : Int) (n : Int) g') (!g') = walkS S (p : Int) (q : Int) (i : Int) (j : Int) first := by
            rw [← hw, eo, en, List.append_assoc]; rfl
          have fin := ih (carriedAt S (o : Int) (n : Int) g') (!g') (pre ++ [x]) G3 a (some (tI i9)) (some (tI i10)) mG3 (by rw [K3.2.1]; exact n2'.1) (by rw [K3.2.2]; exact n2'.2) (fun h => by simp at h) ha ((K3.1.p A2'.2.1).trans pa2) A3 car_rng hw' (by rw [List.length_append, List.length_cons, List.length_nil]; omega)
          cases g'
          · exact ⟨by decide, fun h => absurd rfl h, fun _ => fin⟩
          · exact ⟨by decide, fun _ => fin, fun h => absurd h (by decide)⟩
        have f51 : fI G2 110 (callA G b S x) = S 51 x := C2.2.2.2.2.2.2.2.2.1
        refine ⟨callA G b S x, rfl, C2.1, by rw [f51]; have := rw'.2.2.2.1; omega, by omega, ?_⟩
        rw [f51]
        have fr : ∀ (o : Nat) (i9 i10 : Int), o ≤ 8 → (if S 51 x = (p : Int) then (q : Int) else (p : Int)) = (o : Int) → g = false → (gK G2 e = 2) ∧ TC Z (d + 6) mi_X2_from [tR (some e), tR (some (callA G b S x))] G2 (KQ Z mi_X2_walk (d + 7) 97 100 [some (tR (some e)), some (tI (p : Int)), some (tI (q : Int)), some (tI ((first.toNat : Nat) : Int)), some (tI (i : Int)), some (tI (j : Int)), some (tR (some a)), some (tR (some (callA G b S x))), some (tI ((g.toNat : Nat) : Int)), some (tI i9), some (tI i10)] [tI (o : Int), tR (some e)] Q) := by
          intro o i9 i10 ho eo eg
          refine ⟨R2.k, xc_from (d := d + 4) V R2 C2 (by have := rw'.2.1; omega) (r_X2_walk_100 ⟨e, rfl, R2.k, ?_⟩)⟩
          have : fromS S x = (ef : Int) := hef
          rw [this]
          exact step o ef g i9 i10 ho hef5 eo (by rw [eg]; exact hef) rfl
        have tt : ∀ (o : Nat) (i9 i10 : Int), o ≤ 8 → (if S 51 x = (p : Int) then (q : Int) else (p : Int)) = (o : Int) → g = true → (gK G2 e = 2) ∧ TC Z (d + 6) mi_X2_to [tR (some e), tR (some (callA G b S x))] G2 (KQ Z mi_X2_walk (d + 7) 88 91 [some (tR (some e)), some (tI (p : Int)), some (tI (q : Int)), some (tI ((first.toNat : Nat) : Int)), some (tI (i : Int)), some (tI (j : Int)), some (tR (some a)), some (tR (some (callA G b S x))), some (tI ((g.toNat : Nat) : Int)), some (tI i9), some (tI i10)] [tI (o : Int), tR (some e)] Q) := by
          intro o i9 i10 ho eo eg
          refine ⟨R2.k, xc_to (d := d + 4) V R2 C2 (by have := rw'.2.2.1; omega) (r_X2_walk_91 ⟨e, rfl, R2.k, ?_⟩)⟩
          have : toS S x = (et : Int) := het
          rw [this]
          exact step o et g i9 i10 ho het5 eo (by rw [eg]; exact het) rfl
        refine ⟨fun hne => ⟨by cases g <;> decide, fun hg => ?_, fun hg => ?_⟩, fun heq => ⟨by cases g <;> decide, fun hg => ?_, fun hg => ?_⟩⟩
        · exact fr p _ _ (by omega) (if_neg hne) (by cases g <;> first | rfl | cases hg)
        · exact tt p _ _ (by omega) (if_neg hne) (by cases g <;> first | rfl | exact absurd rfl hg)
        · exact fr q _ _ (by omega) (if_pos heq) (by cases g <;> first | rfl | cases hg)
        · exact tt q _ _ (by omega) (if_pos heq) (by cases g <;> first | rfl | exact absurd rfl hg)
  refine c_X2_walk (gn G) ?_
  have m0 : Md (fun c => c = b + 9) G (newG G 15 0 (gn G) 3) := Md.rf.new (Nat.le_refl _)
  have k0 : gK (newG G 15 0 (gn G) 3) (gn G) = 15 := gK_new
  have n0 : gn (newG G 15 0 (gn G) 3) = gn G + 1 := rfl
  have p0 : gP (newG G 15 0 (gn G) 3) (gn G) = gn G := gP_new (N := 3)
  have s0 : gs (newG G 15 0 (gn G) 3) = gs G + 3 := rfl
  have z0 : fI (newG G 15 0 (gn G) 3) 133 (gn G) = 0 := ((hz (gn G) (Nat.le_refl _)).2.1 133).1
  generalize newG G 15 0 (gn G) 3 = G0 at *
  refine jc_init k0 (by omega) (hE.md m0) z0 (fun G1 m1 n1 s1 A1 => r_X2_walk_7 ?_)
  have mG1 : Md (fun c => c = b + 9) G G1 := m0.trans' m1 (fun c hc h => by omega)
  obtain ⟨R1, -, cA1⟩ := R.m9 mG1
  have p1 : gP G1 (gn G) = gn G := (m1.p (by omega)).trans p0
  have fin : ∀ (G2 : GH), Qk b G1 G2 → ∀ (c : Int) (o9 o10 : Option Value), walkL S (p : Int) (q : Int) 21 c (!first) = walkS S (p : Int) (q : Int) (i : Int) (j : Int) first → (-1 ≤ c ∧ c < (S 0 47).toNat ∨ c = -1) → TW Z mi_X2_walk (d + 7) 45 [some (tR (some e)), some (tI (p : Int)), some (tI (q : Int)), some (tI ((first.toNat : Nat) : Int)), some (tI (i : Int)), some (tI (j : Int)), some (tR (some (gn G))), some (tR (if c = -1 then none else some (callA G b S c.toNat))), some (tI (((!first).toNat : Nat) : Int)), o9, o10] [] G2 Q := by
    intro G2 K2 c o9 o10 hw hc
    have e1 := K2.2.1
    have e2 := K2.2.2
    exact loop 21 c (!first) [] G2 (gn G) o9 o10 (mG1.trans K2.1) (by omega) (by omega) (fun _ => ⟨by omega, by omega⟩) (Nat.le_refl _) ((K2.1.p A1.2.1).trans p1) (A1.fp p1 K2.1 (fp9 R1.1)) hc hw (by decide)
  cases first
  · refine ⟨by decide, fun _ => ⟨R1.k, xc_carriedF R1 (by omega) hi (fun G2 K2 => r_X2_walk_32 ⟨by decide, fun h => absurd rfl h, fun _ => ?_⟩)⟩, fun h => absurd rfl h⟩
    rw [cA1]
    exact fin G2 K2 _ _ _ rfl car_rng
  · refine ⟨by decide, fun h => absurd h (by decide), fun _ => ⟨R1.k, xc_carriedT R1 (by omega) hj (fun G2 K2 => r_X2_walk_21 ⟨by decide, fun _ => ?_, fun h => absurd h (by decide)⟩)⟩⟩
    rw [cA1]
    exact fin G2 K2 _ _ _ rfl car_rng
/-- a list that is only read -/
def LsO (Z : ZT) (G : GH) (u : Nat) (l : List Nat) : Prop := gK G u = 15 ∧ u < gn G ∧ fI G 133 u = (l.length : Int) ∧ (l ≠ [] → AL Z G u l)
theorem AL.ls {a : Nat} {l : List Nat} (h : AL Z G a l) : LsO Z G a l := ⟨h.1, h.2.1, h.2.2.1, fun _ => h⟩
theorem LsO.fp {P : Nat → Prop} {G' : GH} {a : Nat} {l : List Nat} (h : LsO Z G a l) (pa : gP G a = a) (m : Md P G G') (hp : FP G P) : LsO Z G' a l := by
  obtain ⟨h1, h2, h3, h4⟩ := h
  have s := m.sm h2 (hp.root h2 pa)
  exact ⟨s.1.trans h1, Nat.lt_of_lt_of_le h2 m.1, (s.2.2.2.1 133).1.trans h3, fun hl => (h4 hl).fp pa m hp⟩
theorem ls_size {a : Nat} {l : List Nat} (h : LsO Z G a l) (q : Q (.inl (some (tI (l.length : Int)))) G) : TC Z (d + 1) mi_J7_size [tR (some a)] G Q := c_J7_size ⟨h.1, by rw [h.2.2.1]; exact q⟩
theorem ls_empty {a : Nat} {l : List Nat} (h : LsO Z G a l) (h10 : l.length ≤ 10) (q : Q (.inl (some (tI (b2i (decide (l = [])))))) G) : TC Z (d + 1) mi_J7_isEmpty [tR (some a)] G Q := by
  refine c_J7_isEmpty ⟨h.1, ?_⟩
  rw [h.2.2.1]
  cases l with
  | nil => exact ⟨by decide, fun hn => absurd rfl hn, fun _ => q⟩
  | cons x l => exact ⟨by omega, fun _ => q, fun hn => by simp only [List.length_cons] at hn; omega⟩
/-- a path -/
def PathO (Z : ZT) (G : GH) (a : Nat) (mid p q : Int) (l : List Nat) : Prop :=
  gK G a = 8 ∧ gP G a = a ∧ a < gn G ∧ fI G 101 a = mid ∧ fI G 102 a = p ∧ fI G 103 a = q ∧ ∃ u, fR G 104 a = some u ∧ gP G u = u ∧ LsO Z G u l
theorem PathO.fp {P : Nat → Prop} {G' : GH} {a : Nat} {mid p q : Int} {l : List Nat} (h : PathO Z G a mid p q l) (m : Md P G G') (hp : FP G P) : PathO Z G' a mid p q l := by
  obtain ⟨h1, h2, h3, h4, h5, h6, u, h7, h8, h9⟩ := h
  have s := m.sm h3 (hp.root h3 h2)
  have f := fun i => (s.2.2.2.1 i).1
  exact ⟨s.1.trans h1, s.2.2.1.trans h2, Nat.lt_of_lt_of_le h3 m.1, (f 101).trans h4, (f 102).trans h5, (f 103).trans h6, u, (s.2.2.2.1 104).2.trans h7, (m.p h9.2.1).trans h8, h9.fp h8 m hp⟩
/-- the chain that was found so far -/
def BestO (Z : ZT) (G0 : GH) (b : Nat) (S : St) (G : GH) (r : Option Nat) (o : Option Ch) : Prop := match o with
  | none => r = none
  | some c => c.1.length ≤ 10 ∧ ∃ a, r = some a ∧ PathO Z G a (chMid c) c.2.1 c.2.2.1 (c.1.map (callA G0 b S))
theorem BestO.fp {P : Nat → Prop} {G0 G' : GH} {r : Option Nat} {o : Option Ch} (h : BestO Z G0 b S G r o) (m : Md P G G') (hp : FP G P) : BestO Z G0 b S G' r o := by
  cases o with
  | none => exact h
  | some c =>
    obtain ⟨h1, a, h2, h3⟩ := h
    exact ⟨h1, a, h2, h3.fp m hp⟩
theorem jx_pathNew {a : Nat} {x y z : Int} {u : Nat} {l : List Nat} (hk : gK G a = 8) (pa : gP G a = a) (ha : a < gn G) (au : u ≠ a) (pu : gP G u = u) (A : LsO Z G u l) (q : ∀ G', Md (fun c => c = a) G G' → gn G' = gn G → gs G' = gs G → PathO Z G' a x y z l → Q (.inl none) G') : TC Z (d + 1) mi_X8_init_2 [tR (some a), tI x, tI y, tI z, tR (some u)] G Q := by
  have m : Md (fun c => c = a) G (setR (setI (setI (setI G 101 a x) 102 a y) 103 a z) 104 a (some u)) := (((Md.setI (P := fun c => c = a) Md.rf ha (fun _ => rfl)).setI ha (fun _ => rfl)).setI ha (fun _ => rfl)).setR ha (fun _ => rfl)
  refine c_X8_init_2 ⟨hk, q _ m rfl rfl ⟨hk, pa, ha, ?_, ?_, ?_, u, hR_at, pu, ?_⟩⟩
  · show fI (setI (setI (setI G 101 a x) 102 a y) 103 a z) 101 a = x
    rw [hI_ne (Or.inl (by decide)), hI_ne (Or.inl (by decide)), hI_at]
  · show fI (setI (setI (setI G 101 a x) 102 a y) 103 a z) 102 a = y
    rw [hI_ne (Or.inl (by decide)), hI_at]
  · show fI (setI (setI (setI G 101 a x) 102 a y) 103 a z) 103 a = z
    rw [hI_at]
  · obtain ⟨h1, h2, h3, h4⟩ := A
    have s := m.sm h2 au
    refine ⟨s.1.trans h1, h2, (s.2.2.2.1 133).1.trans h3, fun hl => (h4 hl).md m (fun c hc hh e => ?_)⟩
    subst e
    rcases hh with hh | ⟨hh, -⟩
    · exact au hh.symm
    · rw [pa] at hh; exact au hh.symm
/-- the shortest chain -/
theorem xc_chained {i j : Nat} {w low : Int} (V : Inv S) (R : Rep Z G e b S S) (hE : EnvA Z G) (ow : OW G) (hz : Fz G) (hi : (i : Int) < S 0 38) (hj : (j : Int) < S 0 38) (hw : SetIs S w low) (N : NoOpen S (i : Int) (j : Int) low)
    (qq : ∀ G' r, Md (fun c => c = b + 9) G G' → gn G' ≤ gn G + 486 → gs G' ≤ gs G + 2754 → (r = none → gn G' = gn G ∧ gs G' = gs G) → BestO Z G b S G' r (chain S (i : Int) (j : Int) low) → Q (.inl (some (tR r))) G') :
    TC Z (d + 8) mi_X2_chained [tR (some e), tI (i : Int), tI (j : Int), tI w] G Q := by
  have r40 := V.r40
  have r38 := V.r38
  -- both loops
  have inner : ∀ (p : Nat), (p : Int) < S 0 40 → isThereB S (p : Int) low = true → carriedAt S (p : Int) (i : Int) false = -1 →
      (∀ (G1 : GH) (r4 : Option Nat) (o : Option Ch) (o6 o7 o8 : Option Value), Md (fun c => c = b + 9) G G1 → gn G1 ≤ gn G + 54 * (p + 1) → gs G1 ≤ gs G + 306 * (p + 1) → (r4 = none → gn G1 = gn G ∧ gs G1 = gs G) → BestO Z G b S G1 r4 o → chP S (i : Int) (j : Int) low ((S 0 40).toNat - (p + 1)) (p + 1) o = chain S (i : Int) (j : Int) low → TW Z mi_X2_chained (d + 8) 6 [some (tR (some e)), some (tI (i : Int)), some (tI (j : Int)), some (tI w), some (tR r4), some (tI ((p : Int) + 1)), o6, o7, o8] [] G1 Q) →
      ∀ (r q : Nat) (G1 : GH) (r4 : Option Nat) (o : Option Ch) (o7 o8 : Option Value), q + r = (S 0 40).toNat → Md (fun c => c = b + 9) G G1 → gn G1 ≤ gn G + 54 * p + 6 * q → gs G1 ≤ gs G + 306 * p + 34 * q → (r4 = none → gn G1 = gn G ∧ gs G1 = gs G) → BestO Z G b S G1 r4 o →
        chP S (i : Int) (j : Int) low ((S 0 40).toNat - (p + 1)) (p + 1) (chQ S (i : Int) (j : Int) low (p : Int) r q o) = chain S (i : Int) (j : Int) low →
        TW Z mi_X2_chained (d + 8) 41 [some (tR (some e)), some (tI (i : Int)), some (tI (j : Int)), some (tI w), some (tR r4), some (tI (p : Int)), some (tI (q : Int)), o7, o8] [] G1 Q := by
    intro p hp tp fp out r
    induction r with
    | zero =>
      intro q G1 r4 o o7 o8 hq m n1 s1 h1 B hf
      have R1 := (R.m9 m).1
      refine r_X2_chained_41 ⟨R1.k, by omega, by rw [R1.f40]; omega, fun _ => out G1 r4 o _ _ _ m (by omega) (by omega) h1 B hf, fun hn => by rw [R1.f40] at hn; omega⟩
    | succ r ih =>
      intro q G1 r4 o o7 o8 hq m n1 s1 h1 B hf
      obtain ⟨R1, -, cA1⟩ := R.m9 m
      have hq9 : (q : Int) < S 0 40 := by omega
      rw [chQ] at hf
      refine r_X2_chained_41 ⟨R1.k, by omega, by rw [R1.f40]; omega, fun hn => by rw [R1.f40] at hn; omega, fun _ => ?_⟩
      rw [hw.2 q hq9]
      cases tq : isThereB S (q : Int) low
      · rw [tq, Bool.false_and, if_neg (by decide)] at hf
        exact ⟨by decide, fun _ => ih (q + 1) G1 r4 o _ _ (by omega) m (by omega) (by omega) h1 B hf, fun hn => absurd rfl hn⟩
      · refine ⟨by decide, fun hn => absurd hn (by decide), fun _ => xc_carriedT (d := d + 1) R1 (by omega) (by omega) (fun G2 K2 => r_X2_chained_67 ⟨fun hn => ?_, fun a1 ha1 => ?_⟩)⟩
        · have fq : carriedAt S (q : Int) (j : Int) true = -1 := by
            by_cases hzz : carriedAt S (q : Int) (j : Int) true = -1
            · exact hzz
            · rw [if_neg hzz] at hn; cases hn
          rw [tq, decide_eq_true fq, Bool.and_true, if_pos rfl] at hf
          have m2 := m.trans K2.1
          have B2 := B.fp K2.1 (fp9 R1.1)
          have e1 := K2.2.1
          have e2 := K2.2.2
          -- one side
          have side : ∀ (f : Bool) (x7 : Int) (G3 : GH) (r4 : Option Nat) (o : Option Ch) (o8 : Option Value), (f = true ∧ x7 = 0 ∨ f = false ∧ x7 = 1) → Md (fun c => c = b + 9) G G3 → BestO Z G b S G3 r4 o →
              (∀ (G4 : GH) (r4' : Option Nat) (o8' : Option Value), Md (fun c => c = b + 9) G G4 → gn G4 ≤ gn G3 + 3 → gs G4 ≤ gs G3 + 17 → r4' ≠ none → BestO Z G b S G4 r4' (chStep S (i : Int) (j : Int) (p : Int) (q : Int) f o) → TW Z mi_X2_chained (d + 8) 76 [some (tR (some e)), some (tI (i : Int)), some (tI (j : Int)), some (tI w), some (tR r4'), some (tI (p : Int)), some (tI (q : Int)), some (tI (x7 + 1)), o8'] [] G4 Q) →
              TW Z mi_X2_chained (d + 8) 76 [some (tR (some e)), some (tI (i : Int)), some (tI (j : Int)), some (tI w), some (tR r4), some (tI (p : Int)), some (tI (q : Int)), some (tI x7), o8] [] G3 Q := by
            intro f x7 G3 r4 o o8 hfx m3 B3 k
            obtain ⟨R3, -, cA3⟩ := R.m9 m3
            have fit := walk_fit V N (p := (p : Int)) (q := (q : Int)) ⟨by omega, hp⟩ ⟨by omega, hq9⟩ tp fp fq ⟨by omega, hi⟩ ⟨by omega, hj⟩ f
            have ow3 := m3.ow ow
            have hz3 := m3.fz hz
            have body : TC Z (d + 7) mi_X2_walk [tR (some e), tI (p : Int), tI (q : Int), tI ((f.toNat : Nat) : Int), tI (i : Int), tI (j : Int)] G3 (KQ Z mi_X2_chained (d + 8) 99 102 [some (tR (some e)), some (tI (i : Int)), some (tI (j : Int)), some (tI w), some (tR r4), some (tI (p : Int)), some (tI (q : Int)), some (tI x7), o8] [] Q) := by
              refine xc_walk V R3 (hE.md m3) ow3 hz3 hp hq9 (by omega) (by omega) fit.2 (fun G4 a m4 n4 s4 ha pa A4 => ?_)
              have m04 := m3.trans m4
              have A4' : AL Z G4 a ((walkS S (p : Int) (q : Int) (i : Int) (j : Int) f).map (callA G b S)) := by
                have : (callA G3 b S) = callA G b S := funext cA3
                rw [this] at A4
                exact A4
              have B4 := B3.fp m4 (fp9 R3.1)
              have R4 := (R.m9 m04).1
              -- a new path
              have mk : chStep S (i : Int) (j : Int) (p : Int) (q : Int) f o = some (walkS S (p : Int) (q : Int) (i : Int) (j : Int) f, (p : Int), (q : Int), f) → ∀ (mid : Int), mid = (if f = true then (p : Int) else (q : Int)) → ∀ r4 : Option Nat,
                  TC Z (d + 7) mi_X8_init_2 [tR (some (gn G4)), tI mid, tI (p : Int), tI (q : Int), tR (some a)] (newG G4 8 0 (gn G4) 4) (KQ Z mi_X2_chained (d + 8) 146 149 [some (tR (some e)), some (tI (i : Int)), some (tI (j : Int)), some (tI w), some (tR r4), some (tI (p : Int)), some (tI (q : Int)), some (tI x7), some (tR (some a))] [tR (some (gn G4))] Q) := by
                intro st mid hmid r4
                have mn : Md (fun _ => False) G4 (newG G4 8 0 (gn G4) 4) := Md.rf.new (Nat.le_refl _)
                have kn : gK (newG G4 8 0 (gn G4) 4) (gn G4) = 8 := gK_new
                have pn : gP (newG G4 8 0 (gn G4) 4) (gn G4) = gn G4 := gP_new (N := 4)
                have nn : gn (newG G4 8 0 (gn G4) 4) = gn G4 + 1 := rfl
                have sn : gs (newG G4 8 0 (gn G4) 4) = gs G4 + 4 := rfl
                have An := A4'.fp pa mn (fun _ _ h => h)
                have pan : gP (newG G4 8 0 (gn G4) 4) a = a := (mn.p A4'.2.1).trans pa
                generalize newG G4 8 0 (gn G4) 4 = G5 at *
                refine jx_pathNew kn pn (by omega) (by have := A4'.2.1; omega) pan An.ls (fun G6 m6 n6 s6 P6 => r_X2_chained_149 (k G6 (some (gn G4)) _ ?_ (by omega) (by omega) (fun h => by cases h) ?_))
                · exact (m04.trans' mn (fun c _ h => h.elim)).trans' m6 (fun c hc h => by have := m04.le; omega)
                · rw [st]
                  refine ⟨fit.2, gn G4, rfl, ?_⟩
                  rw [hmid] at P6
                  exact P6
              have mids : (¬ x7 = 0 → f = false) ∧ (x7 = 0 → f = true) := by
                rcases hfx with ⟨h1, h2⟩ | ⟨h1, h2⟩
                · exact ⟨fun h => absurd h2 h, fun _ => h1⟩
                · exact ⟨fun _ => h1, fun h => by omega⟩
              have on : r4 = none → o = none := fun hn => by
                cases o with
                | none => rfl
                | some c => obtain ⟨-, a', h, -⟩ := B4; rw [hn] at h; cases h
              refine r_X2_chained_102 (gn G4) ⟨fun hn => ?_, fun a1 ha1 => ?_⟩
              · have on' := on hn
                subst on'
                exact ⟨by omega, fun h7 => mk rfl _ (by rw [mids.1 h7]; rfl) none, fun h7 => mk rfl _ (by rw [mids.2 h7]; rfl) none⟩
              · subst ha1
                obtain ⟨c, hc⟩ : ∃ c, o = some c := by
                  cases o with
                  | none => exact absurd (show some a1 = none from B4) (fun h => by cases h)
                  | some c => exact ⟨c, rfl⟩
                subst hc
                obtain ⟨l10, a', ea, P4⟩ := id B4
                have eaa : a' = a1 := by cases ea; rfl
                subst eaa
                obtain ⟨p1, p2, p3, p4, p5, p6, u, p7, p8, p9⟩ := P4
                refine ⟨a, rfl, A4'.1, jc_size A4' (r_X2_chained_116 ⟨a', rfl, p1, c_X8_length ⟨p1, fun v1 hv1 => ⟨u, hv1.symm.trans p7, p9.1, ls_size p9 (r_X8_length_9 (r_X2_chained_121 (gn G4) ?_))⟩⟩⟩)⟩
                have f10 := fit.2
                rw [List.length_map, List.length_map]
                refine ⟨by omega, by omega, fun hle => ?_, fun hgt => ⟨by omega, fun h7 => ?_, fun h7 => ?_⟩⟩
                · refine k G4 (some a') _ m04 (by omega) (by omega) (fun h => by cases h) ?_
                  have st : chStep S (i : Int) (j : Int) (p : Int) (q : Int) f (some c) = some c := by
                    show (if (walkS S (p : Int) (q : Int) (i : Int) (j : Int) f).length < c.1.length then _ else _) = _
                    rw [if_neg (by omega)]
                  rw [st]
                  exact B4
                all_goals
                  have st : chStep S (i : Int) (j : Int) (p : Int) (q : Int) f (some c) = some (walkS S (p : Int) (q : Int) (i : Int) (j : Int) f, (p : Int), (q : Int), f) := by
                    show (if (walkS S (p : Int) (q : Int) (i : Int) (j : Int) f).length < c.1.length then _ else _) = _
                    rw [if_pos (by omega)]
                · exact mk st _ (by rw [mids.1 h7]; rfl) (some a')
                · exact mk st _ (by rw [mids.2 h7]; rfl) (some a')
            rcases hfx with ⟨h1, h2⟩ | ⟨h1, h2⟩
            · subst h1 h2
              exact r_X2_chained_76 ⟨by decide, fun h => absurd h (by decide), fun _ => ⟨fun h => absurd rfl h, fun _ => ⟨R3.k, body⟩⟩⟩
            · subst h1 h2
              exact r_X2_chained_76 ⟨by decide, fun h => absurd h (by decide), fun _ => ⟨fun _ => ⟨R3.k, body⟩, fun h => absurd h (by decide)⟩⟩
          exact side true 0 G2 r4 o _ (Or.inl ⟨rfl, rfl⟩) m2 B2 (fun G4 r4' o8' m4 n4 s4 _ B4 => side false (0 + 1) G4 r4' _ o8' (Or.inr ⟨rfl, rfl⟩) m4 B4 (fun G6 r6 o8'' m6 n6 s6 h6 B6 => r_X2_chained_76 ⟨by decide, fun _ => ih (q + 1) G6 r6 _ _ _ (by omega) m6 (by omega) (by omega) (fun z => absurd z h6) B6 hf, fun hn => absurd (by decide) hn⟩))
        · have fq : ¬ carriedAt S (q : Int) (j : Int) true = -1 := fun hzz => by rw [if_pos hzz] at ha1; cases ha1
          rw [decide_eq_false fq, Bool.and_false, if_neg (by decide)] at hf
          have e1 := K2.2.1
          have e2 := K2.2.2
          exact ih (q + 1) G2 r4 o _ _ (by omega) (m.trans K2.1) (by omega) (by omega) (fun z => by have := h1 z; omega) (B.fp K2.1 (fp9 R1.1)) hf
  have outer : ∀ (r p : Nat) (G1 : GH) (r4 : Option Nat) (o : Option Ch) (o6 o7 o8 : Option Value), p + r = (S 0 40).toNat → Md (fun c => c = b + 9) G G1 → gn G1 ≤ gn G + 54 * p → gs G1 ≤ gs G + 306 * p → (r4 = none → gn G1 = gn G ∧ gs G1 = gs G) → BestO Z G b S G1 r4 o → chP S (i : Int) (j : Int) low r p o = chain S (i : Int) (j : Int) low →
      TW Z mi_X2_chained (d + 8) 6 [some (tR (some e)), some (tI (i : Int)), some (tI (j : Int)), some (tI w), some (tR r4), some (tI (p : Int)), o6, o7, o8] [] G1 Q := by
    intro r
    induction r with
    | zero =>
      intro p G1 r4 o o6 o7 o8 hp m n1 s1 h1 B hf
      have R1 := (R.m9 m).1
      refine r_X2_chained_6 ⟨R1.k, by omega, by rw [R1.f40]; omega, fun _ => qq G1 r4 m (by omega) (by omega) h1 (by rw [← hf]; exact B), fun hn => by rw [R1.f40] at hn; omega⟩
    | succ r ih =>
      intro p G1 r4 o o6 o7 o8 hp m n1 s1 h1 B hf
      obtain ⟨R1, -, cA1⟩ := R.m9 m
      have hp9 : (p : Int) < S 0 40 := by omega
      rw [chP] at hf
      refine r_X2_chained_6 ⟨R1.k, by omega, by rw [R1.f40]; omega, fun hn => by rw [R1.f40] at hn; omega, fun _ => ?_⟩
      rw [hw.2 p hp9]
      cases tp : isThereB S (p : Int) low
      · rw [tp, Bool.false_and, if_neg (by decide)] at hf
        exact ⟨by decide, fun _ => ih (p + 1) G1 r4 o _ _ _ (by omega) m (by omega) (by omega) h1 B hf, fun hn => absurd rfl hn⟩
      · refine ⟨by decide, fun hn => absurd hn (by decide), fun _ => xc_carriedF (d := d + 1) R1 (by omega) (by omega) (fun G2 K2 => r_X2_chained_32 ⟨fun hn => ?_, fun a1 ha1 => ?_⟩)⟩
        · have fp : carriedAt S (p : Int) (i : Int) false = -1 := by
            by_cases hzz : carriedAt S (p : Int) (i : Int) false = -1
            · exact hzz
            · rw [if_neg hzz] at hn; cases hn
          rw [tp, decide_eq_true fp, Bool.and_true, if_pos rfl] at hf
          have er : r = (S 0 40).toNat - (p + 1) := by omega
          have e1 := K2.2.1
          have e2 := K2.2.2
          refine inner p hp9 tp fp (fun G3 r4' o' o6' o7' o8' m3 n3 s3 h3 B3 hf3 => ih (p + 1) G3 r4' o' o6' o7' o8' (by omega) m3 (by omega) (by omega) h3 B3 (by rw [er]; exact hf3)) (S 0 40).toNat 0 G2 r4 o _ _ (by omega) (m.trans K2.1) (by omega) (by omega) (fun z => by have := h1 z; omega) (B.fp K2.1 (fp9 R1.1)) ?_
          rw [← er]
          exact hf
        · have fp : ¬ carriedAt S (p : Int) (i : Int) false = -1 := fun hzz => by rw [if_pos hzz] at ha1; cases ha1
          rw [decide_eq_false fp, Bool.and_false, if_neg (by decide)] at hf
          have e1 := K2.2.1
          have e2 := K2.2.2
          exact ih (p + 1) G2 r4 o _ _ _ (by omega) (m.trans K2.1) (by omega) (by omega) (fun z => by have := h1 z; omega) (B.fp K2.1 (fp9 R1.1)) hf
  exact c_X2_chained (outer _ 0 G none none none none none (by omega) Md.rf (by omega) (by omega) (fun _ => ⟨rfl, rfl⟩) rfl rfl)
end EXW
