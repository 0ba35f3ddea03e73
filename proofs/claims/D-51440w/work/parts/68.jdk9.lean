/-! THE JDK, 9: Integers, spots, sets -/
/-- P holds of nothing frozen: what is its own owner, or owned by such a one -/
def Frz (G : GH) (c : Nat) : Prop := c < gn G ∧ gP G c < gn G ∧ gP G (gP G c) = gP G c
def FP (G : GH) (P : Nat → Prop) : Prop := ∀ c, Frz G c → ¬ P c
theorem Frz.root {G : GH} {c : Nat} (hc : c < gn G) (hp : gP G c = c) : Frz G c := ⟨hc, by rw [hp]; exact hc, by rw [hp]; exact hp⟩
theorem FP.root {G : GH} {P : Nat → Prop} {c : Nat} (h : FP G P) (hc : c < gn G) (hp : gP G c = c) : ¬ P c := h c (Frz.root hc hp)
theorem Frz.md {P : Nat → Prop} {G G' : GH} {c : Nat} (h : Frz G c) (m : Md P G G') : Frz G' c := by
  obtain ⟨h1, h2, h3⟩ := h
  have e1 := m.p h1
  have e2 := m.p h2
  exact ⟨Nat.lt_of_lt_of_le h1 m.1, by rw [e1]; exact Nat.lt_of_lt_of_le h2 m.1, by rw [e1, e2]; exact h3⟩
def IntO (G : GH) (a : Nat) (v : Int) : Prop := gK G a = 516 ∧ gP G a = a ∧ a < gn G ∧ fI G 134 a = v
theorem IntO.mdk {P : Nat → Prop} {G G' : GH} {a : Nat} {v : Int} (h : IntO G a v) (m : Md P G G') (hp : ¬ P a) : IntO G' a v := by
  obtain ⟨h1, h2, h3, h4⟩ := h
  have s := m.sm h3 hp
  exact ⟨s.1.trans h1, s.2.2.1.trans h2, Nat.lt_of_lt_of_le h3 m.1, (s.2.2.2.1 134).1.trans h4⟩
theorem IntO.md {P : Nat → Prop} {G G' : GH} {a : Nat} {v : Int} (h : IntO G a v) (m : Md P G G') (hp : FP G P) : IntO G' a v := by
  obtain ⟨h1, h2, h3, h4⟩ := h
  have s := m.sm h3 (hp.root h3 h2)
  exact ⟨s.1.trans h1, s.2.2.1.trans h2, Nat.lt_of_lt_of_le h3 m.1, (s.2.2.2.1 134).1.trans h4⟩
def EnvI (Z : ZT) (G : GH) : Prop := KA (gK G (zE Z 103)) 10 ∧ gL G (zE Z 103) = 256 ∧ zE Z 103 < gn G ∧ gP G (zE Z 103) = zE Z 103 ∧ ∀ i, i < 256 → ∃ a, aR G (zE Z 103) i = some a ∧ IntO G a ((i : Int) - 128)
theorem EnvI.md {Z : ZT} {P : Nat → Prop} {G G' : GH} (h : EnvI Z G) (m : Md P G G') (hp : FP G P) : EnvI Z G' := by
  obtain ⟨h1, h2, h3, h4, h5⟩ := h
  have s := m.sm h3 (hp.root h3 h4)
  refine ⟨by rw [s.1]; exact h1, s.2.1.trans h2, Nat.lt_of_lt_of_le h3 m.1, s.2.2.1.trans h4, fun i hi => ?_⟩
  obtain ⟨a, a1, a2⟩ := h5 i hi
  exact ⟨a, (s.2.2.2.2 i).2.trans a1, a2.md m hp⟩
theorem jc_valueOf {Z : ZT} {d : Nat} {G : GH} {Q : TR → GH → Prop} {x : Int} (hE : EnvI Z G) (hx : -128 ≤ x ∧ x ≤ 127) (q : ∀ a, IntO G a x → Q (.inl (some (tR (some a)))) G) : TC Z (d + 1) mi_J9_valueOf [tI x] G Q := by
  obtain ⟨h1, h2, h3, h4, h5⟩ := hE
  refine c_J9_valueOf 0 ⟨by omega, fun h => by omega, fun _ => ⟨fun h => by omega, fun _ => ⟨h1, by rw [h2]; omega, fun v3 hv3 => ?_⟩⟩⟩
  obtain ⟨a, a1, a2⟩ := h5 (x + 128).toNat (by omega)
  rw [a1] at hv3
  rw [← hv3]
  exact q a (by rw [show (((x + 128).toNat : Nat) : Int) - 128 = x by omega] at a2; exact a2)
theorem jc_intValue {Z : ZT} {d : Nat} {G : GH} {Q : TR → GH → Prop} {a : Nat} {v : Int} (h : IntO G a v) (q : Q (.inl (some (tI v))) G) : TC Z (d + 1) mi_J9_intValue [tR (some a)] G Q := c_J9_intValue ⟨h.1, by rw [h.2.2.2]; exact q⟩
theorem spread_small : ∀ n : Nat, n < 160 → ixor (n : Int) (iushr (n : Int) 16) = (n : Int) := by decide +kernel
/-- a spot -/
def SpotV (G : GH) (k m n t : Nat) : Prop := gK G k = 3 ∧ k < gn G ∧ m ≤ 8 ∧ n ≤ 5 ∧ t ≤ 1 ∧ fI G 26 k = (m : Int) ∧ fI G 27 k = (n : Int) ∧ fI G 28 k = (t : Int)
def spc (m n t : Nat) : Int := ((16 * m + 2 * n + t : Nat) : Int)
theorem spc_inj {m n t m' n' t' : Nat} (hn : n ≤ 5) (ht : t ≤ 1) (hn' : n' ≤ 5) (ht' : t' ≤ 1) (h : spc m n t = spc m' n' t') : m = m' ∧ n = n' ∧ t = t' := by
  unfold spc at h
  omega
theorem ky_spot {Z : ZT} {d : Nat} {G : GH} {k m n t : Nat} (h : SpotV G k m n t) : KeyH Z (d + 2) G k (spc m n t) (fun G1 => G1 = G) := by
  obtain ⟨h1, h2, h3, h4, h5, h6, h7, h8⟩ := h
  have hi : inR (spc m n t) := by unfold spc; omega
  refine ⟨Or.inl h1, h2, hi, fun Q' hq => c_J1_hash ⟨fun e => (by cases e), fun a1 ha1 => ?_⟩⟩
  have e : a1 = k := by cases ha1; rfl
  subst e
  have fin : Q' (.inl (some (tI (spc m n t)))) G := hq G Md.rf rfl rfl rfl
  refine ⟨Or.inl h1, fun _ => c_X3_hashCode ⟨h1, by rw [h8]; omega, fun hz => r_J1_hash_12 ?_, fun hz => r_J1_hash_12 ?_⟩, fun h' => by omega, fun h' => by omega⟩
  · have e : 16 * fI G 26 a1 + 2 * fI G 27 a1 + 0 = ((16 * m + 2 * n + t : Nat) : Int) := by rw [h6, h7]; rw [h8] at hz; omega
    rw [e, spread_small _ (by omega)]
    exact fin
  · have e : 16 * fI G 26 a1 + 2 * fI G 27 a1 + 1 = ((16 * m + 2 * n + t : Nat) : Int) := by rw [h6, h7]; rw [h8] at hz; omega
    rw [e, spread_small _ (by omega)]
    exact fin
/-- spots as keys: frozen -/
def KS (G : GH) (k : Nat) (c : Int) : Prop := gP G k = k ∧ ∃ m n t, SpotV G k m n t ∧ c = spc m n t
theorem SpotV.md {P : Nat → Prop} {G G' : GH} {k m n t : Nat} (h : SpotV G k m n t) (md : Md P G G') (hp : ¬ P k) : SpotV G' k m n t := by
  obtain ⟨h1, h2, h3, h4, h5, h6, h7, h8⟩ := h
  have s := md.sm h2 hp
  exact ⟨s.1.trans h1, Nat.lt_of_lt_of_le h2 md.1, h3, h4, h5, (s.2.2.2.1 26).1.trans h6, (s.2.2.2.1 27).1.trans h7, (s.2.2.2.1 28).1.trans h8⟩
theorem KS.mdk {P : Nat → Prop} {G G' : GH} {k : Nat} {c : Int} (h : KS G k c) (md : Md P G G') (hp : ¬ P k) : KS G' k c := by
  obtain ⟨h1, m, n, t, h2, h3⟩ := h
  exact ⟨(md.p h2.2.1).trans h1, m, n, t, h2.md md hp, h3⟩
theorem KS.md {P : Nat → Prop} {G G' : GH} {k : Nat} {c : Int} (h : KS G k c) (md : Md P G G') (hp : FP G P) : KS G' k c := by
  obtain ⟨h1, m, n, t, h2, h3⟩ := h
  exact ⟨(md.p h2.2.1).trans h1, m, n, t, h2.md md (hp.root h2.2.1 h1), h3⟩
theorem eq_spot {Z : ZT} {d : Nat} {G : GH} {k k' m n t : Nat} (h : SpotV G k m n t) (h' : KS G k' (spc m n t)) : EqK Z (d + 1) G k (some k') := by
  obtain ⟨h1, h2, h3, h4, h5, h6, h7, h8⟩ := h
  obtain ⟨p, m', n', t', ⟨g1, g2, g3, g4, g5, g6, g7, g8⟩, he⟩ := h'
  obtain ⟨rfl, rfl, rfl⟩ := spc_inj h4 h5 g4 g5 he
  refine Or.inr (fun Q' hq => ⟨fun _ => c_X3_equals ⟨k', rfl, g1, fun b hb => (by cases hb; exact g1), k', rfl, g1, h1, by rw [g6]; omega, by rw [h6]; omega, fun hn => absurd (g6.trans h6.symm) hn, fun _ => ⟨k', rfl, g1, by rw [g7]; omega, by rw [h7]; omega, fun hn => absurd (g7.trans h7.symm) hn, fun _ => ⟨k', rfl, g1, by rw [g8]; omega, by rw [h8]; omega, fun hn => absurd (g8.trans h8.symm) hn, fun _ => hq⟩⟩⟩, fun e => by omega, fun e => by omega⟩)
/-- Integers as keys -/
def KI (G : GH) (k : Nat) (c : Int) : Prop := IntO G k c ∧ 0 ≤ c ∧ c ≤ 8
theorem KI.mdk {P : Nat → Prop} {G G' : GH} {k : Nat} {c : Int} (h : KI G k c) (md : Md P G G') (hp : ¬ P k) : KI G' k c := ⟨h.1.mdk md hp, h.2⟩
theorem KI.md {P : Nat → Prop} {G G' : GH} {k : Nat} {c : Int} (h : KI G k c) (md : Md P G G') (hp : FP G P) : KI G' k c := ⟨h.1.md md hp, h.2⟩
theorem ky_int {Z : ZT} {d : Nat} {G : GH} {k : Nat} {c : Int} (h : KI G k c) : KeyH Z (d + 3) G k c (fun G1 => G1 = G) := by
  obtain ⟨⟨h1, h2, h3, h4⟩, h5, h6⟩ := h
  refine ⟨Or.inr (Or.inl h1), h3, by omega, fun Q' hq => c_J1_hash ⟨fun e => (by cases e), fun a1 ha1 => ?_⟩⟩
  have e : a1 = k := by cases ha1; rfl
  subst e
  have fin : Q' (.inl (some (tI c))) G := hq G Md.rf rfl rfl rfl
  refine ⟨Or.inr (Or.inl h1), fun h' => by omega, fun _ => c_J9_hashCode ⟨h1, ?_⟩, fun h' => by omega⟩
  rw [h4]
  refine c_J9_hashCode_2 (r_J9_hashCode_7 (r_J1_hash_12 ?_))
  have e : c = ((c.toNat : Nat) : Int) := by omega
  rw [e, spread_small _ (by omega), ← e]
  exact fin
theorem eq_int {Z : ZT} {d : Nat} {G : GH} {k k' : Nat} {c : Int} (h : KI G k c) (h' : KI G k' c) : EqK Z (d + 2) G k (some k') := by
  obtain ⟨⟨h1, h2, h3, h4⟩, h5, h6⟩ := h
  obtain ⟨g, -, -⟩ := h'
  refine Or.inr (fun Q' hq => ⟨fun e => by omega, fun _ => c_J9_equals ⟨k', rfl, g.1, h1, fun b hb => (by cases hb; exact g.1), k', rfl, g.1, jc_intValue g (r_J9_equals_18 ⟨by omega, by omega, fun hn => absurd h4 hn, fun _ => hq⟩)⟩, fun e => by omega⟩)
/-- a set of small numbers -/
def SetV (Z : ZT) (G : GH) (s h n : Nat) (f : Int → Option Nat) : Prop := gK G s = 13 ∧ s < gn G ∧ fR G 126 s = some h ∧ gK G h = 12 ∧ s ≠ h ∧ MapV KI G h n f ∧ ∀ c, f c ≠ none → f c = some (zE Z 102)
section SETS
variable {Z : ZT} {d : Nat} {G : GH} {Q : TR → GH → Prop} {s h n k : Nat} {c : Int} {f : Int → Option Nat}
theorem SetV.md {P : Nat → Prop} {G' : GH} (S : SetV Z G s h n f) (m : Md P G G') (hs : ¬ P s) (hp : ∀ c, c < gn G → Ow G h c → ¬ P c) (hf : FP G P) : SetV Z G' s h n f := by
  obtain ⟨s1, s2, s3, s4, s5, s6, s7⟩ := S
  have t := m.sm s2 hs
  have hh : h < gn G := by obtain ⟨N, M1, -⟩ := s6; exact M1.2.1
  exact ⟨t.1.trans s1, by have := m.le; omega, (t.2.2.2.1 126).2.trans s3, (m.k hh).trans s4, s5, s6.md m hp (fun k c hk => hk.md m hf), s7⟩
theorem js_has (S : SetV Z G s h n f) (hk : KI G k c) (q : Q (.inl (some (tI (if f c = none then 0 else 1)))) G) : TC Z (d + 7) mi_J4_contains [tR (some s), tR (some k)] G Q := by
  obtain ⟨s1, s2, s3, s4, s5, s6, s7⟩ := S
  refine c_J4_contains ⟨s1, fun v1 hv1 => ⟨h, hv1.symm.trans s3, s4, jv_has s6 (ky_int hk) (fun G1 m rr k' hk' => ?_) (fun G1 m rr e1 e2 => ?_)⟩⟩
  · subst rr; exact eq_int hk hk'
  · have : G1 = G := rr.elim id id
    subst this
    refine r_J4_contains_8 ⟨?_, q⟩
    split
    · exact Or.inl rfl
    · exact Or.inr rfl
theorem js_size (S : SetV Z G s h n f) (q : Q (.inl (some (tI (n : Int)))) G) : TC Z (d + 2) mi_J4_size [tR (some s)] G Q := by
  obtain ⟨s1, s2, s3, s4, s5, s6, s7⟩ := S
  exact c_J4_size ⟨s1, fun v1 hv1 => ⟨h, hv1.symm.trans s3, s4, jv_size s6 (r_J4_size_7 q)⟩⟩
theorem int_not_map {G : GH} {k h : Nat} (hk : gP G k = k) (h12 : gK G h = 12) (h3 : gK G k = 516 ∨ gK G k = 3) : ¬ Ow G h k := fun e => by
  rcases e with e | e
  · rw [e] at h3; omega
  · rw [hk] at e; rw [e] at h3; omega
theorem js_add (S : SetV Z G s h n f) (hsh : gP G s ≠ h) (hk : KI G k c) (hn : n ≤ 8) (hf : f c = none) (hz : Fz G) (q : ∀ G', Md (Ow G h) G G' → Rm 1 6 G G' h → SetV Z G' s h (n + 1) (updM f c (some (zE Z 102))) → Q (.inl (some (tI 1))) G') : TC Z (d + 8) mi_J4_add [tR (some s), tR (some k)] G Q := by
  obtain ⟨s1, s2, s3, s4, s5, s6, s7⟩ := S
  refine c_J4_add ⟨s1, fun v1 hv1 => ⟨h, hv1.symm.trans s3, s4, jv_put s6 (ky_int hk) (by omega) hf (fun l nd hl => ?_) hz (fun G1 m rr => ?_) (fun A B _ m ha k' c' hk' => ?_) (fun G1 G' m rr m' e1 M => ?_)⟩⟩
  · -- every small number has a bin of its own
    have sub : ∀ x ∈ l, x = c := fun x hx => by
      obtain ⟨a1, a2⟩ := hl x hx
      obtain ⟨N, M1, M2, M3, M4⟩ := s6
      obtain ⟨a, b1, b2⟩ := M4 x a1
      obtain ⟨k', x1, x2, x3, x4⟩ := M3 a b1
      rw [b2] at x2
      have hx2 := x2.2
      have hc2 := hk.2
      have key : ∀ u : Nat, u < 9 → ∀ v : Nat, v < 9 → binOf 16 (u : Int) = binOf 16 (v : Int) → u = v := by decide +kernel
      have := key x.toNat (by omega) c.toNat (by omega) (by rw [show ((x.toNat : Nat) : Int) = x by omega, show ((c.toNat : Nat) : Int) = c by omega]; exact a2)
      omega
    cases l with
    | nil => exact Nat.zero_le _
    | cons x l =>
      cases l with
      | nil => exact Nat.le_of_ble_eq_true rfl
      | cons y l =>
        have e1 := sub x List.mem_cons_self
        have e2 := sub y (List.mem_cons_of_mem _ List.mem_cons_self)
        exact absurd (e1.trans e2.symm) (fun e => (List.nodup_cons.mp nd).1 (e ▸ List.mem_cons_self))
  · subst rr; exact ⟨hk, fun _ _ => id⟩
  · refine hk'.mdk m (fun e => ?_)
    have k1 := hk'.1.1
    have k2 := hk'.1.2.1
    rcases e with e | e
    · subst e; omega
    · rw [k2] at e; subst e; omega
  · subst rr
    have e102 : ∀ x, updM f c (some (zE Z 102)) x ≠ none → updM f c (some (zE Z 102)) x = some (zE Z 102) := fun x hx => by
      by_cases e : x = c
      · rw [e, updM_at]
      · rw [updM_ne e] at hx ⊢; exact s7 x hx
    have t := m'.sm s2 (fun e => e.elim s5 hsh)
    have hh : h < gn G1 := by obtain ⟨N, M1, -⟩ := s6; exact M1.2.1
    exact r_J4_add_11 ⟨fun _ => q G' m' e1 ⟨t.1.trans s1, by have := m'.le; omega, (t.2.2.2.1 126).2.trans s3, (m'.k hh).trans s4, s5, M, e102⟩, fun a ha => by cases ha⟩
theorem js_del (S : SetV Z G s h n f) (hsh : gP G s ≠ h) (hk : KI G k c) (hn : 0 < n) (hf : f c ≠ none) (q : ∀ G', Md (Ow G h) G G' → gn G' = gn G → gs G' = gs G → SetV Z G' s h (n - 1) (updM f c none) → Q (.inl (some (tI 1))) G') : TC Z (d + 8) mi_J4_remove [tR (some s), tR (some k)] G Q := by
  obtain ⟨s1, s2, s3, s4, s5, s6, s7⟩ := S
  refine c_J4_remove ⟨s1, fun v1 hv1 => ⟨h, hv1.symm.trans s3, s4, jv_del s4 s6 (ky_int hk) (fun k' hk' => eq_int hk hk') (s7 c hf) hn (fun B m k' c' hk' => ?_) (fun G' m e1 e2 _ M => r_J4_remove_8 ⟨fun hne => absurd rfl hne, fun _ => ?_⟩)⟩⟩
  · refine hk'.mdk m (fun e => ?_)
    have k1 := hk'.1.1
    have k2 := hk'.1.2.1
    rcases e with e | e
    · subst e; omega
    · rw [k2] at e; subst e; omega
  · have e102 : ∀ x, updM f c none x ≠ none → updM f c none x = some (zE Z 102) := fun x hx => by
      by_cases e : x = c
      · rw [e, updM_at] at hx; exact absurd rfl hx
      · rw [updM_ne e] at hx ⊢; exact s7 x hx
    have t := m.sm s2 (fun e => e.elim s5 hsh)
    have hh : h < gn G := by obtain ⟨N, M1, -⟩ := s6; exact M1.2.1
    exact q G' m e1 e2 ⟨t.1.trans s1, by have := m.le; omega, (t.2.2.2.1 126).2.trans s3, (m.k hh).trans s4, s5, M, e102⟩
/-- a new set; its map is owned by o -/
theorem js_init (o : Nat) (ho : o ≤ gn G) (hk : gK G s = 13) (hs : s < gn G) (hps : gP G s ≠ gn G) (hz : Fz G) (q : ∀ G', Md (fun c => c = s) G G' → gn G' = gn G + 1 → gs G' = gs G + 8 → gP G' (gn G) = o → SetV Z G' s (gn G) 0 (fun _ => none) → Q (.inl none) G') : TC Z (d + 4) mi_J4_init [tR (some s)] G Q := by
  refine c_J4_init (c_J3_init (c_J2_init (r_J3_init_4 (r_J4_init_4 o ?_))))
  have k0 : gK (newG G 12 0 o 8) (gn G) = 12 := gK_new
  have p0 : gP (newG G 12 0 o 8) (gn G) = o := gP_new (N := 8)
  have n0 : gn (newG G 12 0 o 8) = gn G + 1 := rfl
  have s0 : gs (newG G 12 0 o 8) = gs G + 8 := rfl
  have m0 : Md (fun c => c = s) G (newG G 12 0 o 8) := Md.rf.new ho
  have f0 := hz (gn G) (Nat.le_refl _)
  have i0 : ∀ f, fI (newG G 12 0 o 8) f (gn G) = 0 := fun f => (f0.2.1 f).1
  have r0 : ∀ f, fR (newG G 12 0 o 8) f (gn G) = none := fun f => (f0.2.1 f).2
  generalize newG G 12 0 o 8 = G0 at *
  refine jv_init (KP := KI) k0 (by omega) (i0 122) (i0 124) (r0 120) (fun G1 m1 n1 s1 M => r_J4_init_12 ⟨s, rfl, ?_, ?_⟩)
  · rw [m1.k (by omega), m0.k hs]; exact hk
  · have mm : Md (fun c => c = s) G (setR G1 126 s (some (gn G))) := (m0.trans' m1 (fun c hc e => by omega)).setR (by omega) (fun _ => rfl)
    refine q _ mm (by show gn G1 = _; omega) (by show gs G1 = _; omega) ((m1.p (by omega)).trans p0) ⟨?_, by show s < gn G1; omega, hR_at, (m1.k (by omega)).trans k0, by omega, M.md (P := fun c => c = s) (Md.setR (P := fun c => c = s) Md.rf (by omega) (fun _ => rfl)) (fun c hc e1 e2 => ?_) (fun k c hk' => hk'.mdk (Md.setR (P := fun c => c = s) Md.rf (by omega) (fun _ => rfl)) (fun e => ?_)), fun c h' => absurd rfl h'⟩
    · show gK G1 s = 13
      rw [m1.k (by omega), m0.k hs]; exact hk
    · subst e2
      rcases e1 with e1 | e1
      · omega
      · rw [m1.p (by omega), m0.p hs] at e1; exact hps e1
    · subst e
      have := hk'.1.1
      rw [m1.k (by omega), m0.k hs] at this; omega
end SETS
