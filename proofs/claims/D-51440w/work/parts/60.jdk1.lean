/-! THE JDK, 1: what changes; lists -/
/-- owners lie below the heap's end -/
def OW (G : GH) : Prop := ∀ c, c < gn G → gP G c < gn G
/-- from G to G' only what P holds of (and what is new) may change; kinds, lengths, owners never do -/
def Md (P : Nat → Prop) (G G' : GH) : Prop := gn G ≤ gn G' ∧ (∀ c, c < gn G → gK G' c = gK G c ∧ gL G' c = gL G c ∧ gP G' c = gP G c) ∧ (∀ c, c < gn G → ¬ P c → SmA G G' c) ∧ (Fz G → Fz G') ∧ (OW G → OW G') ∧ ∀ c, c < gn G → gK G c = 9 → fI G' 105 c = fI G 105 c
theorem Md.rf {P : Nat → Prop} {G : GH} : Md P G G := ⟨Nat.le_refl _, fun _ _ => ⟨rfl, rfl, rfl⟩, fun _ _ _ => SmA.rf, id, id, fun _ _ _ => rfl⟩
theorem Md.trans {P : Nat → Prop} {A B C : GH} (h : Md P A B) (k : Md P B C) : Md P A C := by
  obtain ⟨h1, h2, h3, h4, h5, h6⟩ := h
  obtain ⟨k1, k2, k3, k4, k5, k6⟩ := k
  refine ⟨Nat.le_trans h1 k1, fun c hc => ?_, fun c hc hp => (h3 c hc hp).trans (k3 c (by omega) hp), fun z => k4 (h4 z), fun z => k5 (h5 z), fun c hc hk => (k6 c (by omega) ((h2 c hc).1.trans hk)).trans (h6 c hc hk)⟩
  obtain ⟨a1, a2, a3⟩ := h2 c hc
  obtain ⟨b1, b2, b3⟩ := k2 c (by omega)
  exact ⟨b1.trans a1, b2.trans a2, b3.trans a3⟩
theorem Md.mono {P P' : Nat → Prop} {G G' : GH} (h : Md P G G') (k : ∀ c, c < gn G → P c → P' c) : Md P' G G' := ⟨h.1, h.2.1, fun c hc hp => h.2.2.1 c hc (fun z => hp (k c hc z)), h.2.2.2⟩
/-- what changes was new at the start, or is allowed -/
theorem Md.trans' {P P' : Nat → Prop} {A B C : GH} (h : Md P A B) (k : Md P' B C) (hp : ∀ c, c < gn A → P' c → P c) : Md P A C := by
  obtain ⟨h1, h2, h3, h4, h5, h6⟩ := h
  obtain ⟨k1, k2, k3, k4, k5, k6⟩ := k
  refine ⟨Nat.le_trans h1 k1, fun c hc => ?_, fun c hc hn => (h3 c hc hn).trans (k3 c (by omega) (fun z => hn (hp c hc z))), fun z => k4 (h4 z), fun z => k5 (h5 z), fun c hc hk => (k6 c (by omega) ((h2 c hc).1.trans hk)).trans (h6 c hc hk)⟩
  obtain ⟨a1, a2, a3⟩ := h2 c hc
  obtain ⟨b1, b2, b3⟩ := k2 c (by omega)
  exact ⟨b1.trans a1, b2.trans a2, b3.trans a3⟩
section MDS
variable {P : Nat → Prop} {G0 G : GH} {f b i : Nat} {v : Int} {r : Option Nat}
theorem Md.setI (h : Md P G0 G) (hb : b < gn G) (hp : b < gn G0 → P b) (h105 : f ≠ 105 := by decide) : Md P G0 (setI G f b v) :=
  ⟨h.1, h.2.1, fun c hc hn => (h.2.2.1 c hc hn).trans (SmA.setI (fun e => hn (e ▸ hp (e ▸ hc)))), fun z => (h.2.2.2.1 z).sm (Nat.le_refl _) (fun a ha => SmA.setI (by have : gn G ≤ a := ha; omega)), fun z => h.2.2.2.2.1 z, fun c hc hk => (up2_ne (Or.inl h105.symm)).trans (h.2.2.2.2.2 c hc hk)⟩
theorem Md.setR (h : Md P G0 G) (hb : b < gn G) (hp : b < gn G0 → P b) : Md P G0 (setR G f b r) :=
  ⟨h.1, h.2.1, fun c hc hn => (h.2.2.1 c hc hn).trans (SmA.setR (fun e => hn (e ▸ hp (e ▸ hc)))), fun z => (h.2.2.2.1 z).sm (Nat.le_refl _) (fun a ha => SmA.setR (by have : gn G ≤ a := ha; omega)), fun z => h.2.2.2.2.1 z, fun c hc hk => h.2.2.2.2.2 c hc hk⟩
theorem Md.setA (h : Md P G0 G) (hb : b < gn G) (hp : b < gn G0 → P b) : Md P G0 (setA G b i v) :=
  ⟨h.1, h.2.1, fun c hc hn => (h.2.2.1 c hc hn).trans (SmA.setA (fun e => hn (e ▸ hp (e ▸ hc)))), fun z => (h.2.2.2.1 z).sm (Nat.le_refl _) (fun a ha => SmA.setA (by have : gn G ≤ a := ha; omega)), fun z => h.2.2.2.2.1 z, fun c hc hk => h.2.2.2.2.2 c hc hk⟩
theorem Md.setQ (h : Md P G0 G) (hb : b < gn G) (hp : b < gn G0 → P b) : Md P G0 (setQ G b i r) :=
  ⟨h.1, h.2.1, fun c hc hn => (h.2.2.1 c hc hn).trans (SmA.setQ (fun e => hn (e ▸ hp (e ▸ hc)))), fun z => (h.2.2.2.1 z).sm (Nat.le_refl _) (fun a ha => SmA.setQ (by have : gn G ≤ a := ha; omega)), fun z => h.2.2.2.2.1 z, fun c hc hk => h.2.2.2.2.2 c hc hk⟩
theorem Md.new (h : Md P G0 G) {k n o N : Nat} (ho : o ≤ gn G) : Md P G0 (newG G k n o N) := by
  obtain ⟨h1, h2, h3, h4, h5, h6⟩ := h
  refine ⟨Nat.le_trans h1 (Nat.le_succ _), fun c hc => ?_, fun c hc hn => (h3 c hc hn).trans (SmA.new (by omega)), fun z => (h4 z).new, fun z c hc => ?_, fun c hc hk => h6 c hc hk⟩
  · obtain ⟨a1, a2, a3⟩ := h2 c hc
    exact ⟨(if_neg (by omega)).trans a1, (if_neg (by omega)).trans a2, (if_neg (by omega)).trans a3⟩
  · show (if c = gn G then o else gP G c) < gn G + 1
    have hc : c < gn G + 1 := hc
    split
    · omega
    · exact Nat.lt_succ_of_lt (h5 z c (by omega))
theorem Md.k (h : Md P G0 G) (hb : b < gn G0) : gK G b = gK G0 b := (h.2.1 b hb).1
theorem Md.l (h : Md P G0 G) (hb : b < gn G0) : gL G b = gL G0 b := (h.2.1 b hb).2.1
theorem Md.p (h : Md P G0 G) (hb : b < gn G0) : gP G b = gP G0 b := (h.2.1 b hb).2.2
theorem Md.sm (h : Md P G0 G) (hb : b < gn G0) (hn : ¬ P b) : SmA G0 G b := h.2.2.1 b hb hn
theorem Md.le (h : Md P G0 G) : gn G0 ≤ gn G := h.1
theorem Md.fz (h : Md P G0 G) (z : Fz G0) : Fz G := h.2.2.2.1 z
theorem Md.ow (h : Md P G0 G) (z : OW G0) : OW G := h.2.2.2.2.1 z
theorem Md.num (h : Md P G0 G) (hb : b < gn G0) (hk : gK G0 b = 9) : fI G 105 b = fI G0 105 b := h.2.2.2.2.2 b hb hk
/-- a number of what is new -/
theorem md_new (h : Md P G0 G) (hb : b < gn G) (h0 : gn G0 ≤ b) : Md P G0 (setI G f b v) :=
  ⟨h.1, h.2.1, fun c hc hn => (h.2.2.1 c hc hn).trans (SmA.setI (by omega)), fun z => (h.2.2.2.1 z).sm (Nat.le_refl _) (fun a ha => SmA.setI (by have : gn G ≤ a := ha; omega)), fun z => h.2.2.2.2.1 z, fun c hc hk => (up2_ne (Or.inr (by omega))).trans (h.2.2.2.2.2 c hc hk)⟩
end MDS
/-- reads -/
theorem hI_at {G : GH} {f a : Nat} {v : Int} : fI (setI G f a v) f a = v := up2_at
theorem hI_ne {G : GH} {f a g b : Nat} {v : Int} (h : g ≠ f ∨ b ≠ a) : fI (setI G f a v) g b = fI G g b := up2_ne h
theorem hR_at {G : GH} {f a : Nat} {v : Option Nat} : fR (setR G f a v) f a = v := up2_at
theorem hR_ne {G : GH} {f a g b : Nat} {v : Option Nat} (h : g ≠ f ∨ b ≠ a) : fR (setR G f a v) g b = fR G g b := up2_ne h
theorem hA_at {G : GH} {a i : Nat} {v : Int} : aI (setA G a i v) a i = v := up2_at
theorem hA_ne {G : GH} {a i b j : Nat} {v : Int} (h : b ≠ a ∨ j ≠ i) : aI (setA G a i v) b j = aI G b j := up2_ne h
theorem hQ_at {G : GH} {a i : Nat} {v : Option Nat} : aR (setQ G a i v) a i = v := up2_at
theorem hQ_ne {G : GH} {a i b j : Nat} {v : Option Nat} (h : b ≠ a ∨ j ≠ i) : aR (setQ G a i v) b j = aR G b j := up2_ne h
theorem gK_new {G : GH} {k n o N : Nat} : gK (newG G k n o N) (gn G) = k := if_pos rfl
theorem gL_new {G : GH} {k n o N : Nat} : gL (newG G k n o N) (gn G) = n := if_pos rfl
theorem gP_new {G : GH} {k n o N : Nat} : gP (newG G k n o N) (gn G) = o := if_pos rfl
theorem gK_old {G : GH} {k n o N a : Nat} (h : a ≠ gn G) : gK (newG G k n o N) a = gK G a := if_neg h
theorem gL_old {G : GH} {k n o N a : Nat} (h : a ≠ gn G) : gL (newG G k n o N) a = gL G a := if_neg h
theorem gP_old {G : GH} {k n o N a : Nat} (h : a ≠ gn G) : gP (newG G k n o N) a = gP G a := if_neg h
/-- an object that is owned: itself and its parts -/
def Ow (G : GH) (a : Nat) : Nat → Prop := fun c => c = a ∨ gP G c = a
/-- the start's own empty rows -/
def EnvA (Z : ZT) (G : GH) : Prop := gK G (zE Z 100) = 607 ∧ gL G (zE Z 100) = 0 ∧ gK G (zE Z 101) = 607 ∧ gL G (zE Z 101) = 0 ∧ zE Z 100 < gn G ∧ zE Z 101 < gn G
/-- a list: its row is its own, of ten, or none yet -/
def AL (Z : ZT) (G : GH) (a : Nat) (l : List Nat) : Prop :=
  gK G a = 15 ∧ a < gn G ∧ fI G 133 a = (l.length : Int) ∧ l.length ≤ 10 ∧ ∃ b, fR G 132 a = some b ∧ b < gn G ∧
    ((l = [] ∧ b = zE Z 100 ∧ gK G b = 607 ∧ gL G b = 0) ∨ (gK G b = 107 ∧ gL G b = 10 ∧ gP G b = a ∧ b ≠ a ∧ ∀ i, i < l.length → aR G b i = some (l.getD i 0)))
theorem AL.md {Z : ZT} {P : Nat → Prop} {G G' : GH} {a : Nat} {l : List Nat} (h : AL Z G a l) (m : Md P G G') (hp : ∀ c, c < gn G → c = a ∨ (gP G c = a ∧ gK G c = 107) → ¬ P c) : AL Z G' a l := by
  obtain ⟨h1, h2, h3, h4, b, h5, h6, h7⟩ := h
  obtain ⟨s1, s2, s3, s4, s5⟩ := m.sm h2 (hp a h2 (Or.inl rfl))
  refine ⟨s1.trans h1, Nat.lt_of_lt_of_le h2 m.1, (s4 133).1.trans h3, h4, b, (s4 132).2.trans h5, Nat.lt_of_lt_of_le h6 m.1, ?_⟩
  rcases h7 with ⟨e1, e2, e3, e4⟩ | ⟨e1, e2, e3, e4, e5⟩
  · exact Or.inl ⟨e1, e2, (m.k h6).trans e3, (m.l h6).trans e4⟩
  · obtain ⟨t1, t2, t3, t4, t5⟩ := m.sm h6 (hp b h6 (Or.inr ⟨e3, e1⟩))
    exact Or.inr ⟨t1.trans e1, t2.trans e2, t3.trans e3, e4, fun i hi => ((t5 i).2).trans (e5 i hi)⟩
theorem jc_size {Z : ZT} {d : Nat} {G : GH} {Q : TR → GH → Prop} {a : Nat} {l : List Nat} (h : AL Z G a l) (q : Q (.inl (some (tI (l.length : Int)))) G) : TC Z (d + 1) mi_J7_size [tR (some a)] G Q := c_J7_size ⟨h.1, by rw [h.2.2.1]; exact q⟩
theorem jc_isEmpty {Z : ZT} {d : Nat} {G : GH} {Q : TR → GH → Prop} {a : Nat} {l : List Nat} (h : AL Z G a l) (q : Q (.inl (some (tI (b2i (decide (l = []))))) ) G) : TC Z (d + 1) mi_J7_isEmpty [tR (some a)] G Q := by
  obtain ⟨h1, h2, h3, h4, -⟩ := h
  refine c_J7_isEmpty ⟨h1, by omega, fun hn => ?_, fun hz => ?_⟩
  · rw [decide_eq_false (fun e => hn (by rw [h3, e]; rfl))] at q; exact q
  · rw [decide_eq_true (List.length_eq_zero_iff.mp (by omega))] at q; exact q
theorem jc_checkIndex {Z : ZT} {d : Nat} {G : GH} {Q : TR → GH → Prop} {x n : Int} (h0 : 0 ≤ x ∧ x < n) (hx : inR x) (hn : inR n) (q : Q (.inl (some (tI x))) G) : TC Z (d + 2) mi_J28_checkIndex [tI x, tI n] G Q :=
  c_J28_checkIndex (c_J22_checkIndex ⟨hx, fun h => by omega, fun _ => ⟨hn, fun _ => r_J28_checkIndex_6 q, fun h => by omega⟩⟩)
theorem jc_get {Z : ZT} {d : Nat} {G : GH} {Q : TR → GH → Prop} {a : Nat} {l : List Nat} {i : Nat} (h : AL Z G a l) (hi : i < l.length) (q : Q (.inl (some (tR (some (l.getD i 0))))) G) : TC Z (d + 3) mi_J7_get [tR (some a), tI (i : Int)] G Q := by
  obtain ⟨h1, h2, h3, h4, b, h5, h6, h7⟩ := h
  rcases h7 with ⟨e1, -⟩ | ⟨e1, e2, e3, e4, e5⟩
  · rw [e1] at hi; exact absurd hi (Nat.not_lt_zero _)
  refine c_J7_get ⟨h1, jc_checkIndex (by omega) (by omega) (by omega) (r_J7_get_8 ⟨h1, c_J7_elementData ⟨h1, fun v1 hv => ⟨b, hv.symm.trans h5, Or.inl e1, by omega, fun v5 hv5 => r_J7_get_14 ?_⟩⟩⟩)⟩
  rw [Int.toNat_natCast, e5 i hi] at hv5
  rw [← hv5]
  exact q
/-- a new list -/
theorem jc_init {Z : ZT} {d : Nat} {G : GH} {Q : TR → GH → Prop} {a : Nat} (hk : gK G a = 15) (ha : a < gn G) (hE : EnvA Z G) (hz : fI G 133 a = 0) (q : ∀ G', Md (fun c => c = a) G G' → gn G' = gn G → gs G' = gs G → AL Z G' a [] → Q (.inl none) G') : TC Z (d + 3) mi_J7_init [tR (some a)] G Q := by
  refine c_J7_init (c_J6_init (c_J2_init (r_J6_init_4 ⟨hk, r_J7_init_4 ⟨hk, ?_⟩⟩)))
  have mm : Md (fun c => c = a) G (setR (setI G 131 a 0) 132 a (some (zE Z 100))) := (Md.setI (P := fun c => c = a) Md.rf ha (fun _ => rfl)).setR ha (fun _ => rfl)
  refine q _ mm rfl rfl ⟨hk, ha, ?_, Nat.zero_le _, zE Z 100, hR_at, hE.2.2.2.2.1, Or.inl ⟨rfl, rfl, hE.1, hE.2.1⟩⟩
  show fI (setI G 131 a 0) 133 a = 0
  rw [hI_ne (Or.inl (by decide))]
  exact hz
theorem jc_add {Z : ZT} {d : Nat} {G : GH} {Q : TR → GH → Prop} {a x : Nat} {l : List Nat} (h : AL Z G a l) (hl : l.length < 10) (hx : KE (gK G x) "java/lang/Object") (hxn : x < gn G) (q : ∀ G', Md (Ow G a) G G' → gn G' ≤ gn G + 1 → gs G' ≤ gs G + 10 → (l ≠ [] → gn G' = gn G ∧ gs G' = gs G) → AL Z G' a (l ++ [x]) → Q (.inl (some (tI 1))) G') : TC Z (d + 5) mi_J7_add [tR (some a), tR (some x)] G Q := by
  obtain ⟨h1, h2, h3, h4, b, h5, h6, h7⟩ := h
  refine c_J7_add ⟨h1, fun v1 hv => ?_⟩
  rw [h5] at hv
  subst hv
  rw [h3]
  rcases h7 with ⟨e1, e2, e3, e4⟩ | ⟨e1, e2, e3, e4, e5⟩
  · subst e1
    have kS : KA (gK (setI G 131 a (fI G 131 a + 1)) b) 7 := Or.inr e3
    refine c_J7_add_2 ⟨b, rfl, kS, by decide, by rw [show gL (setI G 131 a (fI G 131 a + 1)) b = 0 from e4]; decide, fun hn => ?_, fun _ => ⟨h1, c_J7_grow ⟨h1, ?_⟩⟩⟩
    · exact absurd (show ((([] : List Nat).length : Nat) : Int) = ((gL (setI G 131 a (fI G 131 a + 1)) b : Nat) : Int) by rw [show gL (setI G 131 a (fI G 131 a + 1)) b = 0 from e4]; rfl) hn
    · have f133 : fI (setI G 131 a (fI G 131 a + 1)) 133 a = 0 := (hI_ne (Or.inl (by decide))).trans h3
      rw [f133]
      refine c_J7_grow_2 ⟨h1, fun v1 hv1 => ⟨b, hv1.symm.trans h5, kS, by rw [show gL (setI G 131 a (fI G 131 a + 1)) b = 0 from e4]; decide, fun hp => ?_, fun _ => fun v6 hv6 => ⟨fun _ => ?_, fun hn => ?_⟩⟩⟩
      · rw [show gL (setI G 131 a (fI G 131 a + 1)) b = 0 from e4] at hp; exact absurd hp (by decide)
      · refine c_J11_max ⟨by decide, by decide, fun hh => absurd hh (by decide), fun _ => r_J7_grow_2_52 a ⟨by decide, a, rfl, ?_, r_J7_grow_10 (r_J7_add_2_10 ⟨gn G, rfl, ?_, ?_, fun y hy => ?_, ?_, r_J7_add_23 ?_⟩)⟩⟩
        · exact (gK_old (G := setI G 131 a (fI G 131 a + 1)) (by show a ≠ gn G; omega)).trans h1
        · exact gK_new (G := setI G 131 a (fI G 131 a + 1)) (N := 10)
        · rw [show gL (setR (newG (setI G 131 a (fI G 131 a + 1)) 107 (10 : Int).toNat a (10 : Int).toNat) 132 a (some (gn (setI G 131 a (fI G 131 a + 1))))) (gn G) = 10 from gL_new (G := setI G 131 a (fI G 131 a + 1)) (N := 10)]
          exact ⟨by decide, by decide⟩
        · cases hy
          show KE (gK (newG (setI G 131 a (fI G 131 a + 1)) 107 (10 : Int).toNat a (10 : Int).toNat) x) _
          rw [gK_old (by show x ≠ gn G; omega)]
          exact hx
        · exact (gK_old (G := setI G 131 a (fI G 131 a + 1)) (N := 10) (by show a ≠ gn G; omega)).trans h1
        · have m1 : Md (Ow G a) G (setI G 131 a (fI G 131 a + 1)) := Md.rf.setI h2 (fun _ => Or.inl rfl)
          have m2 : Md (Ow G a) G (newG (setI G 131 a (fI G 131 a + 1)) 107 10 a 10) := m1.new (Nat.le_of_lt h2)
          have m3 : Md (Ow G a) G (setR (newG (setI G 131 a (fI G 131 a + 1)) 107 10 a 10) 132 a (some (gn G))) := m2.setR (by show a < gn G + 1; omega) (fun _ => Or.inl rfl)
          have m4 := m3.setQ (b := gn G) (i := 0) (r := some x) (by show gn G < gn G + 1; omega) (fun hh => absurd hh (Nat.lt_irrefl _))
          have m5 := m4.setI (f := 133) (b := a) (v := 0 + 1) (by show a < gn G + 1; omega) (fun _ => Or.inl rfl)
          refine q _ m5 (Nat.le_refl _) (Nat.le_refl _) (fun h => absurd rfl h) ⟨?_, ?_, ?_, ?_, gn G, ?_, ?_, Or.inr ⟨?_, ?_, ?_, ?_, fun i hi => ?_⟩⟩
          · exact (gK_old (G := setI G 131 a (fI G 131 a + 1)) (N := 10) (by show a ≠ gn G; omega)).trans h1
          · show a < gn G + 1; omega
          · exact hI_at
          · show 1 ≤ 10; decide
          · exact hR_at
          · show gn G < gn G + 1; omega
          · exact gK_new (G := setI G 131 a (fI G 131 a + 1)) (N := 10)
          · exact gL_new (G := setI G 131 a (fI G 131 a + 1)) (N := 10)
          · exact gP_new (G := setI G 131 a (fI G 131 a + 1)) (N := 10)
          · omega
          · have hi : i < 1 := hi
            have : i = 0 := by omega
            subst this
            exact hQ_at
      · exact absurd (hv6.symm.trans (h5.trans (by rw [e2]))) hn
  · have kL : gL (setI G 131 a (fI G 131 a + 1)) b = 10 := e2
    refine c_J7_add_2 ⟨b, rfl, Or.inl e1, by omega, by rw [kL]; decide, fun _ => ⟨b, rfl, e1, by rw [kL]; omega, fun y hy => ?_, h1, r_J7_add_23 ?_⟩, fun hc => ?_⟩
    · cases hy; exact hx
    · have m1 : Md (Ow G a) G (setI G 131 a (fI G 131 a + 1)) := Md.rf.setI h2 (fun _ => Or.inl rfl)
      have m2 := m1.setQ (b := b) (i := (l.length : Int).toNat) (r := some x) h6 (fun _ => Or.inr e3)
      have m3 := m2.setI (f := 133) (b := a) (v := (l.length : Int) + 1) h2 (fun _ => Or.inl rfl)
      refine q _ m3 (Nat.le_succ _) (Nat.le_add_right _ _) (fun _ => ⟨rfl, rfl⟩) ⟨h1, h2, ?_, ?_, b, h5, h6, Or.inr ⟨e1, e2, e3, e4, fun i hi => ?_⟩⟩
      · rw [hI_at, List.length_append]; rfl
      · simp only [List.length_append, List.length_cons, List.length_nil]; omega
      · rw [Int.toNat_natCast]
        show aR (setQ (setI G 131 a (fI G 131 a + 1)) b l.length (some x)) b i = _
        by_cases e : i = l.length
        · subst e
          rw [hQ_at, List.getD_eq_getElem?_getD, List.getElem?_append_right (Nat.le_refl _), Nat.sub_self]
          rfl
        · have hi' : i < l.length := by simp only [List.length_append, List.length_cons, List.length_nil] at hi; omega
          rw [hQ_ne (Or.inr e)]
          rw [List.getD_eq_getElem?_getD, List.getElem?_append_left hi', ← List.getD_eq_getElem?_getD]
          exact e5 i hi'
    · rw [kL] at hc; omega
theorem getD_memN {l : List Nat} {i : Nat} (h : i < l.length) : l.getD i 0 ∈ l := by
  rw [List.getD_eq_getElem?_getD, List.getElem?_eq_getElem h]
  exact List.getElem_mem h
/-- the copy that closes the gap -/
theorem Md.cpy {P : Nat → Prop} {G0 G : GH} {s sp b dp n : Nat} (h : Md P G0 G) (hb : b < gn G) (hp : b < gn G0 → P b) : Md P G0 (cpyG G s sp b dp n) := by
  have sm : ∀ c, c ≠ b → SmA G (cpyG G s sp b dp n) c := fun c hc => ⟨rfl, rfl, rfl, fun _ => ⟨rfl, rfl⟩, fun i => ⟨if_neg (fun z => hc z.1), if_neg (fun z => hc z.1)⟩⟩
  exact ⟨h.1, h.2.1, fun c hc hn => (h.2.2.1 c hc hn).trans (sm c (fun e => hn (e ▸ hp (e ▸ hc)))), fun z => (h.2.2.2.1 z).sm (Nat.le_refl _) (fun a ha => sm a (by have : gn G ≤ a := ha; omega)), fun z => h.2.2.2.2.1 z, fun c hc hk => h.2.2.2.2.2 c hc hk⟩
theorem r_J7_fastRemove_31 {Z : ZT} {d : Nat} {G : GH} {Q : TR → GH → Prop} {t b i s : Nat} (hk : gK G b = 107) (hl : s < gL G b) (hi : i < s) (hv : ∀ j, i < j → j ≤ s → ∃ v, aR G b j = some v ∧ KE (gK G v) "java/lang/Object")
    (h : TW Z mi_J7_fastRemove (d + 1) 34 [some (tR (some t)), some (tR (some b)), some (tI (i : Int)), some (tI (s : Int))] [] (cpyG G b (i + 1) b i (s - i)) Q) :
    TW Z mi_J7_fastRemove (d + 1) 31 [some (tR (some t)), some (tR (some b)), some (tI (i : Int)), some (tI (s : Int))] [tI ((s : Int) - (i : Int)), tI (i : Int), tR (some b), tI ((i : Int) + 1), tR (some b)] G Q := by
  refine tw_acpy (t := 7) dJ7_fastRemove_31 q2047 q535 q534 q170 rfl (Or.inl hk) hk (by omega) (by omega) (by omega) (by omega) (by omega) (fun j h1 h2 => Or.inr (Or.inr ⟨"java/lang/Object", rfl, fun v hv' => ?_⟩)) (by decide) ?_
  · obtain ⟨w, hw, hK⟩ := hv j (by omega) (by omega)
    rw [hw] at hv'
    cases hv'
    exact hK
  · have e1 : ((i : Int) + 1).toNat = i + 1 := by omega
    have e2 : ((s : Int) - (i : Int)).toNat = s - i := by omega
    rw [e1, e2, Int.toNat_natCast]
    exact h
theorem jc_removeAt {Z : ZT} {d : Nat} {G : GH} {Q : TR → GH → Prop} {a : Nat} {l : List Nat} {i : Nat} (h : AL Z G a l) (hi : i < l.length) (hx : ∀ x ∈ l, KE (gK G x) "java/lang/Object") (q : ∀ G', Md (Ow G a) G G' → gn G' = gn G → gs G' = gs G → AL Z G' a (l.eraseIdx i) → Q (.inl (some (tR (some (l.getD i 0))))) G') : TC Z (d + 3) mi_J7_remove [tR (some a), tI (i : Int)] G Q := by
  obtain ⟨h1, h2, h3, h4, b, h5, h6, h7⟩ := h
  rcases h7 with ⟨e1, -⟩ | ⟨e1, e2, e3, e4, e5⟩
  · rw [e1] at hi; exact absurd hi (Nat.not_lt_zero _)
  refine c_J7_remove ⟨h1, jc_checkIndex (by omega) (by omega) (by omega) (r_J7_remove_8 ⟨h1, fun v1 hv => ⟨b, hv.symm.trans h5, Or.inl e1, by omega, fun v5 hv5 => ?_⟩⟩)⟩
  rw [h5] at hv
  subst hv
  rw [Int.toNat_natCast, e5 i hi] at hv5
  subst hv5
  have hlen : (l.eraseIdx i).length = l.length - 1 := List.length_eraseIdx_of_lt hi
  have hget : ∀ j, j < l.length - 1 → (l.eraseIdx i).getD j 0 = if j < i then l.getD j 0 else l.getD (j + 1) 0 := fun j hj => by
    rw [List.getD_eq_getElem?_getD, List.getElem?_eraseIdx]
    split <;> rw [List.getD_eq_getElem?_getD]
  have f133 : fI G 133 a - 1 = ((l.length - 1 : Nat) : Int) := by omega
  refine c_J7_fastRemove ⟨h1, by omega, by omega, fun hc => ⟨b, rfl, e1, by omega, r_J7_remove_24 ?_⟩, fun hc => ?_⟩
  · rw [f133, Int.toNat_natCast]
    have m1 : Md (Ow G a) G (setI G 131 a (fI G 131 a + 1)) := Md.rf.setI h2 (fun _ => Or.inl rfl)
    have m2 := m1.setI (f := 133) (b := a) (v := ((l.length - 1 : Nat) : Int)) h2 (fun _ => Or.inl rfl)
    have m3 := m2.setQ (b := b) (i := l.length - 1) (r := none) h6 (fun _ => Or.inr e3)
    refine q _ m3 rfl rfl ⟨h1, h2, ?_, by omega, b, h5, h6, Or.inr ⟨e1, e2, e3, e4, fun j hj => ?_⟩⟩
    · rw [hlen]; exact hI_at
    · rw [hlen] at hj
      rw [hQ_ne (Or.inr (by omega)), hget j hj, if_pos (by omega)]
      exact e5 j (by omega)
  · rw [f133]
    refine r_J7_fastRemove_31 (G := setI G 131 a (fI G 131 a + 1)) e1 (by show l.length - 1 < gL G b; omega) (by omega) (fun j j1 j2 => ⟨l.getD j 0, e5 j (by omega), hx _ (getD_memN (by omega))⟩) (r_J7_fastRemove_34 ⟨h1, b, rfl, e1, by show 0 ≤ ((l.length - 1 : Nat) : Int) ∧ ((l.length - 1 : Nat) : Int) < (gL G b : Int); omega, r_J7_remove_24 ?_⟩)
    rw [Int.toNat_natCast]
    have m1 : Md (Ow G a) G (setI G 131 a (fI G 131 a + 1)) := Md.rf.setI h2 (fun _ => Or.inl rfl)
    have m2 := m1.cpy (s := b) (sp := i + 1) (b := b) (dp := i) (n := l.length - 1 - i) h6 (fun _ => Or.inr e3)
    have m3 := m2.setI (f := 133) (b := a) (v := ((l.length - 1 : Nat) : Int)) h2 (fun _ => Or.inl rfl)
    have m4 := m3.setQ (b := b) (i := l.length - 1) (r := none) h6 (fun _ => Or.inr e3)
    refine q _ m4 rfl rfl ⟨h1, h2, ?_, by omega, b, h5, h6, Or.inr ⟨e1, e2, e3, e4, fun j hj => ?_⟩⟩
    · rw [hlen]; exact hI_at
    · rw [hlen] at hj
      rw [hQ_ne (Or.inr (by omega)), hget j hj]
      show (if b = b ∧ i ≤ j ∧ j < i + (l.length - 1 - i) then aR G b (i + 1 + (j - i)) else aR G b j) = _
      by_cases hji : j < i
      · rw [if_neg (by omega), if_pos hji]
        exact e5 j (by omega)
      · rw [if_pos ⟨rfl, by omega, by omega⟩, if_neg hji, show i + 1 + (j - i) = j + 1 by omega]
        exact e5 (j + 1) (by omega)
