/-! THE EXCHANGE, 29: a new one -/
section NEWX
variable {Z : ZT} {d : Nat} {G G0 : GH} {Q : TR → GH → Prop} {e b : Nat} {S S' T T' : St}
/-- the parts as they are made -/
def Pt (Z : ZT) (G : GH) (b j : Nat) : Prop :=
  if j = 1 then gK G (b + 1) = 105 ∧ gL G (b + 1) = 200 ∧ ∀ i, aR G (b + 1) i = none
  else if j = 2 then gK G (b + 2) = 12 ∧ MapV KS G (b + 2) 0 (fun _ => none)
  else if j = 3 then SetV Z G (b + 3) (b + 4) 0 (fun _ => none)
  else if j = 5 then gK G (b + 5) = 14 ∧ MapV KyW G (b + 5) 0 (fun _ => none)
  else if j = 6 then AL Z G (b + 6) []
  else if j = 7 then AL Z G (b + 7) []
  else if j = 8 then gK G (b + 8) = 100 ∧ gL G (b + 8) = 13 ∧ ∀ i, aI G (b + 8) i = 0
  else if j = 9 then gK G (b + 9) = 3
  else True
theorem Pt.md {G' : GH} {j n : Nat} (h : Pt Z G b j) (hn : gn G = b + n + 1) (hj : j ≤ n) (h4 : j = 3 → 4 ≤ n) (hp : ∀ i, 1 ≤ i → i ≤ n → gP G (b + i) = e) (he : e ≤ b) (ke : gK G e = 2) (fe : ¬ Frz G e) (pe : ∀ i, 1 ≤ i → gP G e ≠ b + i) (m : Md (fun c => c = e) G G') : Pt Z G' b j := by
  have fp : FP G (fun c => c = e) := fun c hf hc => fe (hc ▸ hf)
  have own : ∀ i, 1 ≤ i → ∀ c, c < gn G → Ow G (b + i) c → ¬ c = e := fun i i1 c hc ho z => by
    rcases ho with ho | ho
    · omega
    · rw [z] at ho; exact pe i i1 ho
  unfold Pt at h ⊢
  by_cases h1 : j = 1
  · rw [if_pos h1] at h ⊢
    have s := m.sm (b := b + 1) (by omega) (by omega)
    exact ⟨s.1.trans h.1, s.2.1.trans h.2.1, fun i => (s.2.2.2.2 i).2.trans (h.2.2 i)⟩
  rw [if_neg h1] at h ⊢
  by_cases h2 : j = 2
  · rw [if_pos h2] at h ⊢
    refine ⟨(m.k (by omega)).trans h.1, h.2.md m (own 2 (by decide)) (fun k' c' hk' => hk'.mdk m (fun z => ?_))⟩
    obtain ⟨-, m', n', t', q2, -⟩ := hk'
    rw [z] at q2
    have := q2.1
    omega
  rw [if_neg h2] at h ⊢
  by_cases h3 : j = 3
  · rw [if_pos h3] at h ⊢
    exact h.md m (by omega) (own 4 (by decide)) fp
  rw [if_neg h3] at h ⊢
  by_cases h5 : j = 5
  · rw [if_pos h5] at h ⊢
    exact ⟨(m.k (by omega)).trans h.1, h.2.md m (own 5 (by decide)) (fun k' c' hk' => hk'.md m fp)⟩
  rw [if_neg h5] at h ⊢
  by_cases h6 : j = 6
  · rw [if_pos h6] at h ⊢
    exact h.md m (fun c hc hh => own 6 (by decide) c hc (hh.elim Or.inl (fun z => Or.inr z.1)))
  rw [if_neg h6] at h ⊢
  by_cases h7 : j = 7
  · rw [if_pos h7] at h ⊢
    exact h.md m (fun c hc hh => own 7 (by decide) c hc (hh.elim Or.inl (fun z => Or.inr z.1)))
  rw [if_neg h7] at h ⊢
  by_cases h8 : j = 8
  · rw [if_pos h8] at h ⊢
    have s := m.sm (b := b + 8) (by omega) (by omega)
    exact ⟨s.1.trans h.1, s.2.1.trans h.2.1, fun i => (s.2.2.2.2 i).1.trans (h.2.2 i)⟩
  rw [if_neg h8] at h ⊢
  by_cases h9 : j = 9
  · rw [if_pos h9] at h ⊢
    exact (m.k (by omega)).trans h
  rw [if_neg h9]
  trivial
/-- the field of a part -/
def fldE (j : Nat) : Nat := if j = 1 then 12 else if j = 2 then 14 else if j = 3 then 15 else if j = 5 then 16 else if j = 6 then 17 else if j = 7 then 18 else if j = 8 then 19 else if j = 9 then 20 else 13
theorem fldE_inj : ∀ i : Fin 11, ∀ j : Fin 11, i.val ≠ 0 → j.val ≠ 0 → i.val ≠ 4 → j.val ≠ 4 → fldE i.val = fldE j.val → i = j := by decide
/-- where the making stands: n parts, k fields; t slots -/
def Stg (Z : ZT) (G0 G : GH) (e b n k t : Nat) : Prop :=
  (e ≤ b ∧ gn G0 = b + 1 ∧ gK G0 e = 2 ∧ e < gn G0 ∧ (gP G0 e < gn G0 ∧ gK G0 (gP G0 e) = 1 ∧ gP G0 (gP G0 e) ≠ gP G0 e)) ∧
  Md (fun c => c = e) G0 G ∧ gn G = b + n + 1 ∧ gs G ≤ gs G0 + t ∧ (∀ j, 1 ≤ j → j ≤ n → gP G (b + j) = e ∧ Pt Z G b j) ∧ (∀ j, 1 ≤ j → j ≤ k → j ≠ 4 → fR G (fldE j) e = some (b + j)) ∧ ∀ f, fI G f e = fI G0 f e
theorem Stg.e0 {n k t : Nat} (h : Stg Z G0 G e b n k t) : e < gn G ∧ gK G e = 2 ∧ ¬ Frz G e ∧ ∀ i, 1 ≤ i → gP G e ≠ b + i := by
  obtain ⟨⟨h1, h2, h3, h4, h5, h6, h7⟩, m, -⟩ := h
  have pe := m.p h4
  refine ⟨by have := m.le; omega, (m.k h4).trans h3, fun hf => ?_, fun i hi => by rw [pe]; omega⟩
  have := hf.2.2
  rw [pe, m.p h5] at this
  exact h7 this
theorem Stg.md {G' : GH} {n k t : Nat} (h : Stg Z G0 G e b n k t) (h4 : n ≠ 3) (m : Md (fun c => c = e) G G') : ∀ j, 1 ≤ j → j ≤ n → gP G' (b + j) = e ∧ Pt Z G' b j := by
  obtain ⟨e1, e2, e3, e4⟩ := h.e0
  obtain ⟨⟨h1, h2, h3, h4', h5⟩, -, hn, -, hp, -, -⟩ := h
  intro j j1 j2
  obtain ⟨p1, p2⟩ := hp j j1 j2
  exact ⟨(m.p (by omega)).trans p1, p2.md hn j2 (fun _ => by omega) (fun i i1 i2 => (hp i i1 i2).1) h1 e2 e3 e4 m⟩
/-- a field is set -/
theorem Stg.fld {n k t j : Nat} (h : Stg Z G0 G e b n k t) (h4 : n ≠ 3) (hj : 1 ≤ j ∧ j ≤ 10 ∧ j ≠ 4) (hk : ∀ i, 1 ≤ i → i ≤ j → i ≠ 4 → i ≠ j → i ≤ k) (hkj : k ≤ j) : Stg Z G0 (setR G (fldE j) e (some (b + j))) e b n j t := by
  obtain ⟨e1, e2, e3, e4⟩ := h.e0
  have m : Md (fun c => c = e) G (setR G (fldE j) e (some (b + j))) := Md.rf.setR e1 (fun _ => rfl)
  have hm := h.md h4 m
  obtain ⟨hA, mm, hn, hs, hp, hf, hi⟩ := h
  refine ⟨hA, mm.trans m, hn, hs, hm, fun i i1 i2 i4 => ?_, hi⟩
  by_cases hij : i = j
  · subst hij; exact hR_at
  · rw [hR_ne (Or.inl (fun z => hij (by
      have := fldE_inj ⟨i, by omega⟩ ⟨j, by omega⟩ (by show i ≠ 0; omega) (by show j ≠ 0; omega) i4 hj.2.2 z
      exact Fin.mk.inj this)))]
    exact hf i i1 (hk i i1 i2 i4 hij) i4
/-- a part is made -/
theorem Stg.part {G' : GH} {n k t n' t' : Nat} (h : Stg Z G0 G e b n k t) (h4 : n ≠ 3) (m : Md (fun _ => False) G G') (hn : gn G' = b + n' + 1) (hs : gs G' ≤ gs G + t') (hp : ∀ j, n < j → j ≤ n' → gP G' (b + j) = e ∧ Pt Z G' b j) : Stg Z G0 G' e b n' k (t + t') := by
  have hm := h.md h4 (m.mono (fun _ _ z => z.elim))
  obtain ⟨e1, -⟩ := h.e0
  have se := m.sm e1 id
  obtain ⟨hA, mm, hn0, hs0, hp0, hf, hi⟩ := h
  refine ⟨hA, mm.trans (m.mono (fun _ _ z => z.elim)), hn, by omega, fun j j1 j2 => ?_, fun j j1 j2 j4 => (se.2.2.2.1 _).2.trans (hf j j1 j2 j4), fun f => (se.2.2.2.1 f).1.trans (hi f)⟩
  by_cases hj : j ≤ n
  · exact hm j j1 hj
  · exact hp j (by omega) j2
def clr (sw li mi : Int) : St := fun f x => if f = 0 then (if x = 38 then sw else if x = 39 then li else if x = 40 then mi else if x = 42 then 1 else if x = 45 then mi - 1 else 0) else 0
theorem clr_0 {sw li mi : Int} {k : Nat} (h : k ≠ 38 ∧ k ≠ 39 ∧ k ≠ 40 ∧ k ≠ 42 ∧ k ≠ 45) : clr sw li mi 0 k = 0 := by
  unfold clr
  rw [if_pos rfl, if_neg h.1, if_neg h.2.1, if_neg h.2.2.1, if_neg h.2.2.2.1, if_neg h.2.2.2.2]
theorem clr_f {sw li mi : Int} {f k : Nat} (h : f ≠ 0) : clr sw li mi f k = 0 := if_neg h
theorem clr_cut {sw li mi : Int} {k : Nat} (hk : k < 9) : isCutB (clr sw li mi) (k : Int) = false := by
  have e41 : clr sw li mi 0 41 = 0 := clr_0 (by decide)
  rw [cut_bit (by rw [e41]; omega) (by omega), e41]
  exact Nat.zero_testBit _
theorem clr_ord {sw li mi : Int} (h : 1 ≤ mi ∧ mi ≤ 9) : inOrd (clr sw li mi) = mi := by
  have e40 : clr sw li mi 0 40 = mi := rfl
  unfold inOrd
  rw [e40, sumI_congr (g := fun _ : Nat => b2i true) _ _ (fun x _ hx => by rw [clr_cut (by omega)]; rfl), sumI_len (p := fun _ => true)]
  rw [List.filter_eq_self.mpr (fun _ _ => rfl), List.length_range]
  omega
/-- all is made: it is an empty exchange -/
theorem Stg.rep {F : GH} {sw li mi : Int} {n t : Nat} (h : Stg Z G0 G e b 9 9 t) (m : Md (fun c => c = e) G F) (hn : gn F = b + 11) (hp : gP F (b + 10) = e ∧ gK F (b + 10) = 105 ∧ gL F (b + 10) = (sw * li).toNat ∧ ∀ i, aR F (b + 10) i = none) (hR : ∀ f, f ≠ 13 → fR F f e = fR G f e) (h13 : fR F 13 e = some (b + 10))
    (hI : fI F 9 e = sw ∧ fI F 10 e = li ∧ fI F 11 e = mi ∧ fI F 21 e = 0 ∧ fI F 22 e = 0 ∧ fI F 23 e = 1 ∧ fI F 24 e = 0 ∧ fI F 25 e = mi - 1) (hmi : 1 ≤ mi ∧ mi ≤ 9) : Rep Z F e b (clr sw li mi) (clr sw li mi) ∧ WL F b = [] := by
  have hm := h.md (by decide) m
  obtain ⟨e1, e2, e3, e4⟩ := h.e0
  obtain ⟨⟨h1, h2, h3, h4, h5, h6, h7⟩, mm, hn0, hs, hpt, hf, hi⟩ := h
  have pe : gP F e = gP G0 e := (m.p e1).trans (mm.p h4)
  have mF := mm.trans m
  have q1 := (hm 1 (by decide) (by decide)).2
  have q2 := (hm 2 (by decide) (by decide)).2
  have q3 := (hm 3 (by decide) (by decide)).2
  have q5 := (hm 5 (by decide) (by decide)).2
  have q6 := (hm 6 (by decide) (by decide)).2
  have q7 := (hm 7 (by decide) (by decide)).2
  have q8 := (hm 8 (by decide) (by decide)).2
  have q9 := (hm 9 (by decide) (by decide)).2
  simp [Pt] at q1 q2 q3 q5 q6 q7 q8 q9
  have fE : ∀ j, 1 ≤ j → j ≤ 9 → j ≠ 4 → fldE j ≠ 13 → fR F (fldE j) e = some (b + j) := fun j j1 j2 j4 j13 => (hR _ j13).trans (hf j j1 j2 j4)
  have wl : WL F b = [] := q7.wl.symm
  have e47 : clr sw li mi 0 47 = 0 := clr_0 (by decide)
  have e38 : clr sw li mi 0 38 = sw := rfl
  have e39 : clr sw li mi 0 39 = li := rfl
  have e40 : clr sw li mi 0 40 = mi := rfl
  have e42 : clr sw li mi 0 42 = 1 := rfl
  have e45 : clr sw li mi 0 45 = mi - 1 := rfl
  have cw : ∀ s, callWith (clr sw li mi) s = -1 := fun s => callWith_of (fun x hx => by rw [e47] at hx; exact absurd hx (Nat.not_lt_zero x))
  have ca : ∀ m v t, carriedAt (clr sw li mi) m v t = -1 := fun m v t => carriedAt_of (fun x hx => by rw [e47] at hx; exact absurd hx (Nat.not_lt_zero x))
  refine ⟨⟨⟨(m.k e1).trans e2, by omega, h1, by omega, ⟨by rw [pe]; have := mF.le; omega, by rw [pe, mF.k h5]; exact h6, by rw [pe, mF.p h5]; exact h7⟩, ⟨fE 1 (by decide) (by decide) (by decide) (by decide), h13, fE 2 (by decide) (by decide) (by decide) (by decide), fE 3 (by decide) (by decide) (by decide) (by decide), fE 5 (by decide) (by decide) (by decide) (by decide), fE 6 (by decide) (by decide) (by decide) (by decide), fE 7 (by decide) (by decide) (by decide) (by decide), fE 8 (by decide) (by decide) (by decide) (by decide), fE 9 (by decide) (by decide) (by decide) (by decide)⟩, fun j j1 j2 => ?_, ⟨q1.1, q1.2.1, q2.1, q3.1, q3.2.2.2.1, q5.1, q6.1, q7.1, q8.1, q8.2.1, q9, hp.2.1⟩⟩, ?_, ⟨fun c hc => ?_, fun k hk _ => q1.2.2 k, fun s hs => ?_⟩, ⟨0, _, q2.2, ?_, fun m' i t _ _ => ?_⟩, ⟨0, _, q3, ?_, fun k hk => ?_⟩, ⟨0, _, q5.2, ?_, fun g hg => ?_, fun c hc => absurd rfl hc⟩, ⟨[], q6, ?_, fun g hg => absurd hg (Nat.not_lt_zero g)⟩, ?_⟩, wl⟩
  · by_cases hj : j = 10
    · rw [hj]; exact hp.1
    · exact (hm j j1 (by omega)).1
  · obtain ⟨i1, i2, i3, i4, i5, i6, i7, i8⟩ := hI
    unfold ScE
    rw [e38, e39, e40, e42, e45, clr_0 (k := 46) (by decide), clr_0 (k := 44) (by decide), clr_0 (k := 43) (by decide)]
    exact ⟨i1, i2, i3, i4, i5, i6, i7, i8, hp.2.2.1, fun k _ => (q8.2.2 k).trans (clr_f (by decide)).symm⟩
  · rw [e47] at hc; exact absurd hc (Nat.not_lt_zero c)
  · rw [cw, if_pos rfl]; exact hp.2.2.2 s
  · rw [e47]; rfl
  · rw [ca, if_pos rfl]
  · rw [clr_ord hmi, e40]; omega
  · rw [e40] at hk
    rw [clr_cut (by omega)]
    exact ⟨fun _ => rfl, fun _ => rfl⟩
  · rw [clr_0 (k := 60) (by decide)]; rfl
  · rw [clr_0 (k := 60) (by decide)] at hg; exact absurd hg (Nat.not_lt_zero g)
  · rw [clr_0 (k := 60) (by decide)]; rfl
  · unfold WaitE
    rw [wl]
    exact ⟨q7, by rw [clr_0 (k := 55) (by decide)]; rfl, fun w hw => absurd hw (Nat.not_lt_zero w)⟩
/-- the last part -/
theorem Stg.last {Hn : GH} {sw li mi : Int} (An : Stg Z G Hn e b 9 9 251) (hz0 : ∀ f, fI G f e = 0) (hFz : Fz G) (hsw : 1 ≤ sw ∧ sw ≤ 6) (hli : 1 ≤ li ∧ li ≤ 6) (hmi : 1 ≤ mi ∧ mi ≤ 9)
    (q : ∀ G', Md (fun c => c = e) G G' → gn G' = gn G + 10 → gs G' ≤ gs G + 287 → Rep Z G' e b (clr sw li mi) (clr sw li mi) → WL G' b = [] → Q (.inl none) G') :
    TW Z mi_X2_init (d + 5) 118 [some (tR (some e)), some (tI sw), some (tI li), some (tI mi)] [] (setR (newG (setI (setI (setI (setI Hn 23 e 1) 9 e sw) 10 e li) 11 e mi) 105 (sw * li).toNat e (sw * li).toNat) 13 e (some (gn Hn))) Q := by
  have h2 := An.1.2.1
  have eN := An.e0.1
  have mX : Md (fun c => c = e) Hn (setI (setI (setI (setI Hn 23 e 1) 9 e sw) 10 e li) 11 e mi) := (((Md.setI (P := fun c => c = e) Md.rf eN (fun _ => rfl)).setI eN (fun _ => rfl)).setI eN (fun _ => rfl)).setI eN (fun _ => rfl)
  have x23 : fI (setI (setI (setI (setI Hn 23 e 1) 9 e sw) 10 e li) 11 e mi) 23 e = 1 := (hI_ne (Or.inl (by decide))).trans ((hI_ne (Or.inl (by decide))).trans ((hI_ne (Or.inl (by decide))).trans hI_at))
  have x9 : fI (setI (setI (setI (setI Hn 23 e 1) 9 e sw) 10 e li) 11 e mi) 9 e = sw := (hI_ne (Or.inl (by decide))).trans ((hI_ne (Or.inl (by decide))).trans hI_at)
  have x10 : fI (setI (setI (setI (setI Hn 23 e 1) 9 e sw) 10 e li) 11 e mi) 10 e = li := (hI_ne (Or.inl (by decide))).trans hI_at
  have x11 : fI (setI (setI (setI (setI Hn 23 e 1) 9 e sw) 10 e li) 11 e mi) 11 e = mi := hI_at
  have xo : ∀ f, f ≠ 23 → f ≠ 9 → f ≠ 10 → f ≠ 11 → fI (setI (setI (setI (setI Hn 23 e 1) 9 e sw) 10 e li) 11 e mi) f e = 0 := fun f f1 f2 f3 f4 => (hI_ne (Or.inl f4)).trans ((hI_ne (Or.inl f3)).trans ((hI_ne (Or.inl f2)).trans ((hI_ne (Or.inl f1)).trans ((An.2.2.2.2.2.2 f).trans (hz0 f)))))
  have xR : ∀ f, fR (setI (setI (setI (setI Hn 23 e 1) 9 e sw) 10 e li) 11 e mi) f e = fR Hn f e := fun _ => rfl
  rw [show gn Hn = gn (setI (setI (setI (setI Hn 23 e 1) 9 e sw) 10 e li) 11 e mi) from rfl]
  have xn : gn (setI (setI (setI (setI Hn 23 e 1) 9 e sw) 10 e li) 11 e mi) = gn Hn := rfl
  have xs : gs (setI (setI (setI (setI Hn 23 e 1) 9 e sw) 10 e li) 11 e mi) = gs Hn := rfl
  generalize setI (setI (setI (setI Hn 23 e 1) 9 e sw) 10 e li) 11 e mi = X at *
  have hnn : gn Hn = b + 10 := An.2.2.1
  have zX := (An.2.1.trans mX).fz hFz (gn X) (Nat.le_refl _)
  have k36 : sw * li ≤ 36 := by
    have h1 : sw * li ≤ 6 * 6 := Int.mul_le_mul hsw.2 hli.2 (by omega) (by omega)
    omega
  have mF : Md (fun c => c = e) Hn (setI (setR (newG X 105 (sw * li).toNat e (sw * li).toNat) 13 e (some (gn X))) 25 e (mi - 1)) := ((mX.new (by omega)).setR (by show e < gn X + 1; omega) (fun _ => rfl)).setI (by show e < gn X + 1; omega) (fun _ => rfl)
  refine r_X2_init_118 ⟨?_, ?_⟩
  · show gK (newG X 105 (sw * li).toNat e (sw * li).toNat) e = 2
    rw [gK_old (by omega), mX.k eN]
    exact An.e0.2.1
  have rep := An.rep (n := 0) (sw := sw) (li := li) (mi := mi) mF (by show gn X + 1 = _; omega) ⟨?_, ?_, ?_, ?_⟩ (fun f hf => (hR_ne (G := newG X 105 (sw * li).toNat e (sw * li).toNat) (Or.inl hf)).trans (xR f)) ?_ ?_ hmi
  · refine q _ (An.2.1.trans mF) (by show gn X + 1 = _; omega) ?_ rep.1 rep.2
    show gs X + (sw * li).toNat ≤ _
    have := An.2.2.2.1
    omega
  · rw [show b + 10 = gn X by omega]; exact gP_new (N := (sw * li).toNat)
  · rw [show b + 10 = gn X by omega]; exact gK_new (N := (sw * li).toNat)
  · rw [show b + 10 = gn X by omega]; exact gL_new (N := (sw * li).toNat)
  · intro i
    rw [show b + 10 = gn X by omega]
    exact (zX.2.2 i).2
  · rw [show b + 10 = gn X by omega]; exact hR_at (G := newG X 105 (sw * li).toNat e (sw * li).toNat)
  · refine ⟨(hI_ne (Or.inl (by decide))).trans x9, (hI_ne (Or.inl (by decide))).trans x10, (hI_ne (Or.inl (by decide))).trans x11, (hI_ne (Or.inl (by decide))).trans (xo 21 (by decide) (by decide) (by decide) (by decide)), (hI_ne (Or.inl (by decide))).trans (xo 22 (by decide) (by decide) (by decide) (by decide)), (hI_ne (Or.inl (by decide))).trans x23, (hI_ne (Or.inl (by decide))).trans (xo 24 (by decide) (by decide) (by decide) (by decide)), hI_at⟩
/-- the making of an exchange -/
theorem xc_init {sw li mi : Int} (hA : e ≤ b ∧ gn G = b + 1 ∧ gK G e = 2 ∧ e < gn G ∧ (gP G e < gn G ∧ gK G (gP G e) = 1 ∧ gP G (gP G e) ≠ gP G e)) (hz0 : ∀ f, fI G f e = 0) (E : EnvE Z G) (hsw : 1 ≤ sw ∧ sw ≤ 6) (hli : 1 ≤ li ∧ li ≤ 6) (hmi : 1 ≤ mi ∧ mi ≤ 9)
    (q : ∀ G', Md (fun c => c = e) G G' → gn G' = gn G + 10 → gs G' ≤ gs G + 287 → Rep Z G' e b (clr sw li mi) (clr sw li mi) → WL G' b = [] → Q (.inl none) G') : TC Z (d + 5) mi_X2_init [tR (some e), tI sw, tI li, tI mi] G Q := by
  obtain ⟨h1, h2, h3, h4, h5, h6, h7⟩ := id hA
  have hFz := E.2.2.2
  have S0 : Stg Z G G e b 0 0 0 := ⟨hA, Md.rf, by omega, by omega, fun j j1 j2 => by omega, fun j j1 j2 => by omega, fun _ => rfl⟩
  have z1 : ∀ {H : GH}, Md (fun c => c = e) G H → ∀ a, gn H ≤ a → (∀ f, fI H f a = 0 ∧ fR H f a = none) ∧ ∀ i, aI H a i = 0 ∧ aR H a i = none := fun m a ha => (m.fz hFz a ha).2
  refine c_X2_init e e ⟨?_, ?_⟩
  · rw [gK_old (by omega)]; exact h3
  -- calls
  have A1 : Stg Z G (newG G 105 200 e 200) e b 1 0 (0 + 200) := S0.part (by decide) (Md.rf.new (by omega)) (by show gn G + 1 = _; omega) (Nat.le_refl _) (fun j j1 j2 => by
    have ej : j = 1 := by omega
    subst ej
    rw [show b + 1 = gn G by omega]
    refine ⟨gP_new (N := 200), ?_⟩
    unfold Pt
    rw [if_pos rfl, ← h2]
    exact ⟨gK_new (N := 200), gL_new (N := 200), fun i => (hFz (gn G) (Nat.le_refl _)).2.2 i |>.2⟩)
  have A2 := A1.fld (j := 1) (by decide) ⟨by decide, by decide, by decide⟩ (fun i i1 i2 i4 i5 => by omega) (by decide)
  rw [← h2] at A2
  have eA : setR (newG G 105 200 e 200) (fldE 1) e (some (gn G)) = setR (newG G 105 200 e 200) 12 e (some (gn G)) := rfl
  rw [eA] at A2
  have n2 : gn (setR (newG G 105 200 e 200) 12 e (some (gn G))) = gn G + 1 := rfl
  generalize setR (newG G 105 200 e 200) 12 e (some (gn G)) = H2 at *
  -- carried
  have m3 : Md (fun _ => False) H2 (newG H2 12 0 e 8) := Md.rf.new (by omega)
  have k3 : gK (newG H2 12 0 e 8) (gn H2) = 12 := gK_new
  have p3 : gP (newG H2 12 0 e 8) (gn H2) = e := gP_new (N := 8)
  have z3 := z1 A2.2.1 (gn H2) (Nat.le_refl _)
  have i3 : ∀ f, fI (newG H2 12 0 e 8) f (gn H2) = 0 := fun f => (z3.1 f).1
  have r3 : ∀ f, fR (newG H2 12 0 e 8) f (gn H2) = none := fun f => (z3.1 f).2
  have g3 : gn (newG H2 12 0 e 8) = gn H2 + 1 := rfl
  have s3 : gs (newG H2 12 0 e 8) = gs H2 + 8 := rfl
  rw [show gn G + 1 = gn H2 from n2.symm]
  generalize newG H2 12 0 e 8 = H3 at *
  refine jv_init (KP := KS) (d := d + 2) k3 (by omega) (i3 122) (i3 124) (r3 120) (fun H4 m4 g4 s4 M4 => r_X2_init_22 e ⟨e, rfl, ?_, ?_⟩)
  · rw [m4.k (by have := A2.e0.1; omega), m3.k A2.e0.1]; exact A2.e0.2.1
  have A4 : Stg Z G H4 e b 2 1 (0 + 200 + 8) := A2.part (by decide) (m3.trans' m4 (fun c hc z => by omega)) (by omega) (by omega) (fun j j1 j2 => by
    have ej : j = 2 := by omega
    subst ej
    have eb : b + 2 = gn H2 := by have := A2.2.2.1; omega
    rw [eb]
    refine ⟨(m4.p (by omega)).trans p3, ?_⟩
    unfold Pt
    rw [if_neg (by decide), if_pos rfl, eb]
    exact ⟨(m4.k (by omega)).trans k3, M4⟩)
  have A5 := A4.fld (j := 2) (by decide) ⟨by decide, by decide, by decide⟩ (fun i i1 i2 i4 i5 => by omega) (by decide)
  have eb2 : b + 2 = gn H2 := by have := A2.2.2.1; omega
  have eA5 : setR H4 (fldE 2) e (some (b + 2)) = setR H4 14 e (some (gn H2)) := by rw [eb2]; rfl
  rw [eA5] at A5
  clear A4
  have nnH5 : gn (setR H4 14 e (some (gn H2))) = gn H4 := rfl
  rw [← nnH5]
  generalize setR H4 14 e (some (gn H2)) = H5 at *
  -- cut
  have m6 : Md (fun _ => False) H5 (newG H5 13 0 e 1) := Md.rf.new (by have := A5.e0.1; omega)
  have k6 : gK (newG H5 13 0 e 1) (gn H5) = 13 := gK_new
  have p6 : gP (newG H5 13 0 e 1) (gn H5) = e := gP_new (N := 1)
  have g6 : gn (newG H5 13 0 e 1) = gn H5 + 1 := rfl
  have s6 : gs (newG H5 13 0 e 1) = gs H5 + 1 := rfl
  have f6 : Fz (newG H5 13 0 e 1) := m6.fz (A5.2.1.fz hFz)
  have n5 := A5.2.2.1
  generalize newG H5 13 0 e 1 = H6 at *
  refine js_init (d := d) e (by omega) k6 (by omega) (by rw [p6]; omega) f6 (fun H7 m7 g7 s7 p7 S7 => r_X2_init_33 e ⟨e, rfl, ?_, ?_⟩)
  · rw [m7.k (by have := A5.e0.1; omega), m6.k A5.e0.1]; exact A5.e0.2.1
  have A7 : Stg Z G H7 e b 4 2 (0 + 200 + 8 + 9) := A5.part (by decide) (m6.trans' m7 (fun c hc z => by omega)) (by omega) (by omega) (fun j j1 j2 => by
    have ej : j = 3 ∨ j = 4 := by omega
    rcases ej with rfl | rfl
    · have eb : b + 3 = gn H5 := by omega
      rw [eb]
      refine ⟨(m7.p (by omega)).trans p6, ?_⟩
      unfold Pt
      rw [if_neg (by decide), if_neg (by decide), if_pos rfl, show b + 3 = gn H5 by omega, show b + 4 = gn H6 by omega]
      exact S7
    · rw [show b + 4 = gn H6 by omega]
      exact ⟨p7, by unfold Pt; simp⟩)
  have A8 := A7.fld (j := 3) (by decide) ⟨by decide, by decide, by decide⟩ (fun i i1 i2 i4 i5 => by omega) (by decide)
  have eA8 : setR H7 (fldE 3) e (some (b + 3)) = setR H7 15 e (some (gn H5)) := by rw [show b + 3 = gn H5 by omega]; rfl
  rw [eA8] at A8
  clear A7
  have nnH8 : gn (setR H7 15 e (some (gn H5))) = gn H7 := rfl
  rw [← nnH8]
  generalize setR H7 15 e (some (gn H5)) = H8 at *
  -- names
  have n8 := A8.2.2.1
  have m9 : Md (fun _ => False) H8 (newG H8 14 0 e 12) := Md.rf.new (by have := A8.e0.1; omega)
  have k9 : gK (newG H8 14 0 e 12) (gn H8) = 14 := gK_new
  have p9 : gP (newG H8 14 0 e 12) (gn H8) = e := gP_new (N := 12)
  have z9 := z1 A8.2.1 (gn H8) (Nat.le_refl _)
  have i9 : ∀ f, fI (newG H8 14 0 e 12) f (gn H8) = 0 := fun f => (z9.1 f).1
  have r9 : ∀ f, fR (newG H8 14 0 e 12) f (gn H8) = none := fun f => (z9.1 f).2
  have g9 : gn (newG H8 14 0 e 12) = gn H8 + 1 := rfl
  have s9 : gs (newG H8 14 0 e 12) = gs H8 + 12 := rfl
  generalize newG H8 14 0 e 12 = H9 at *
  refine jv_linit (KP := KyW) (d := d + 1) k9 (by omega) (i9 122) (i9 124) (r9 120) (r9 128) (fun Ha ma ga sa Ma => r_X2_init_44 e ⟨e, rfl, ?_, ?_⟩)
  · rw [ma.k (by have := A8.e0.1; omega), m9.k A8.e0.1]; exact A8.e0.2.1
  have Aa : Stg Z G Ha e b 5 3 (0 + 200 + 8 + 9 + 12) := A8.part (by decide) (m9.trans' ma (fun c hc z => by omega)) (by omega) (by omega) (fun j j1 j2 => by
    have ej : j = 5 := by omega
    subst ej
    have eb : b + 5 = gn H8 := by omega
    rw [eb]
    refine ⟨(ma.p (by omega)).trans p9, ?_⟩
    unfold Pt
    rw [if_neg (by decide), if_neg (by decide), if_neg (by decide), if_pos rfl, eb]
    exact ⟨(ma.k (by omega)).trans k9, Ma⟩)
  have Ab := Aa.fld (j := 5) (by decide) ⟨by decide, by decide, by decide⟩ (fun i i1 i2 i4 i5 => by omega) (by decide)
  have eAb : setR Ha (fldE 5) e (some (b + 5)) = setR Ha 16 e (some (gn H8)) := by rw [show b + 5 = gn H8 by omega]; rfl
  rw [eAb] at Ab
  clear Aa
  have nnHb : gn (setR Ha 16 e (some (gn H8))) = gn Ha := rfl
  rw [← nnHb]
  generalize setR Ha 16 e (some (gn H8)) = Hb at *
  -- groups
  have nb := Ab.2.2.1
  have mc : Md (fun _ => False) Hb (newG Hb 15 0 e 3) := Md.rf.new (by have := Ab.e0.1; omega)
  have kc : gK (newG Hb 15 0 e 3) (gn Hb) = 15 := gK_new
  have pc : gP (newG Hb 15 0 e 3) (gn Hb) = e := gP_new (N := 3)
  have zc := z1 Ab.2.1 (gn Hb) (Nat.le_refl _)
  have ic : fI (newG Hb 15 0 e 3) 133 (gn Hb) = 0 := (zc.1 133).1
  have gc : gn (newG Hb 15 0 e 3) = gn Hb + 1 := rfl
  have sc : gs (newG Hb 15 0 e 3) = gs Hb + 3 := rfl
  generalize newG Hb 15 0 e 3 = Hc at *
  refine jc_init (d := d + 1) kc (by omega) (E.1.md (Ab.2.1.trans' mc (fun c hc z => z.elim))) ic (fun Hd md gd sd Ad => r_X2_init_55 e ⟨e, rfl, ?_, ?_⟩)
  · rw [md.k (by have := Ab.e0.1; omega), mc.k Ab.e0.1]; exact Ab.e0.2.1
  have Ae : Stg Z G Hd e b 6 5 (0 + 200 + 8 + 9 + 12 + 3) := Ab.part (by decide) (mc.trans' md (fun c hc z => by omega)) (by omega) (by omega) (fun j j1 j2 => by
    have ej : j = 6 := by omega
    subst ej
    have eb : b + 6 = gn Hb := by omega
    rw [eb]
    refine ⟨(md.p (by omega)).trans pc, ?_⟩
    unfold Pt
    rw [if_neg (by decide), if_neg (by decide), if_neg (by decide), if_neg (by decide), if_pos rfl, eb]
    exact Ad)
  have Af := Ae.fld (j := 6) (by decide) ⟨by decide, by decide, by decide⟩ (fun i i1 i2 i4 i5 => by omega) (by decide)
  have eAf : setR Hd (fldE 6) e (some (b + 6)) = setR Hd 17 e (some (gn Hb)) := by rw [show b + 6 = gn Hb by omega]; rfl
  rw [eAf] at Af
  clear Ae
  have nnHf : gn (setR Hd 17 e (some (gn Hb))) = gn Hd := rfl
  rw [← nnHf]
  generalize setR Hd 17 e (some (gn Hb)) = Hf at *
  -- waiting
  have nf := Af.2.2.1
  have mg : Md (fun _ => False) Hf (newG Hf 15 0 e 3) := Md.rf.new (by have := Af.e0.1; omega)
  have kg : gK (newG Hf 15 0 e 3) (gn Hf) = 15 := gK_new
  have pg : gP (newG Hf 15 0 e 3) (gn Hf) = e := gP_new (N := 3)
  have zg := z1 Af.2.1 (gn Hf) (Nat.le_refl _)
  have ig : fI (newG Hf 15 0 e 3) 133 (gn Hf) = 0 := (zg.1 133).1
  have gg : gn (newG Hf 15 0 e 3) = gn Hf + 1 := rfl
  have sg : gs (newG Hf 15 0 e 3) = gs Hf + 3 := rfl
  generalize newG Hf 15 0 e 3 = Hg at *
  refine jc_init (d := d + 1) kg (by omega) (E.1.md (Af.2.1.trans' mg (fun c hc z => z.elim))) ig (fun Hh mh gh sh Ah => r_X2_init_66 e e ⟨e, rfl, ?_, ?_, ?_⟩)
  · rw [mh.k (by have := Af.e0.1; omega), mg.k Af.e0.1]; exact Af.e0.2.1
  · rw [gK_old (by show e ≠ gn Hh; have := Af.e0.1; omega)]
    show gK Hh e = 2
    rw [mh.k (by have := Af.e0.1; omega), mg.k Af.e0.1]; exact Af.e0.2.1
  have Ai : Stg Z G Hh e b 7 6 (0 + 200 + 8 + 9 + 12 + 3 + 3) := Af.part (by decide) (mg.trans' mh (fun c hc z => by omega)) (by omega) (by omega) (fun j j1 j2 => by
    have ej : j = 7 := by omega
    subst ej
    have eb : b + 7 = gn Hf := by omega
    rw [eb]
    refine ⟨(mh.p (by omega)).trans pg, ?_⟩
    unfold Pt
    rw [if_neg (by decide), if_neg (by decide), if_neg (by decide), if_neg (by decide), if_neg (by decide), if_pos rfl, eb]
    exact Ah)
  have Aj := Ai.fld (j := 7) (by decide) ⟨by decide, by decide, by decide⟩ (fun i i1 i2 i4 i5 => by omega) (by decide)
  have eAj : setR Hh (fldE 7) e (some (b + 7)) = setR Hh 18 e (some (gn Hf)) := by rw [show b + 7 = gn Hf by omega]; rfl
  rw [eAj] at Aj
  have en18 : gn (setR Hh 18 e (some (gn Hf))) = gn Hh := rfl
  rw [← en18]
  clear Ai
  generalize setR Hh 18 e (some (gn Hf)) = Hj at *
  -- accounts
  have nj := Aj.2.2.1
  have Ak : Stg Z G (newG Hj 100 13 e 13) e b 8 7 (0 + 200 + 8 + 9 + 12 + 3 + 3 + 13) := Aj.part (by decide) (Md.rf.new (by have := Aj.e0.1; omega)) (by show gn Hj + 1 = _; omega) (Nat.le_refl _) (fun j j1 j2 => by
    have ej : j = 8 := by omega
    subst ej
    have eb : b + 8 = gn Hj := by omega
    rw [eb]
    refine ⟨gP_new (N := 13), ?_⟩
    unfold Pt
    rw [if_neg (by decide), if_neg (by decide), if_neg (by decide), if_neg (by decide), if_neg (by decide), if_neg (by decide), if_pos rfl, eb]
    exact ⟨gK_new (N := 13), gL_new (N := 13), fun i => ((z1 Aj.2.1 (gn Hj) (Nat.le_refl _)).2 i).1⟩)
  have Al := Ak.fld (j := 8) (by decide) ⟨by decide, by decide, by decide⟩ (fun i i1 i2 i4 i5 => by omega) (by decide)
  have eAl : setR (newG Hj 100 13 e 13) (fldE 8) e (some (b + 8)) = setR (newG Hj 100 13 e 13) 19 e (some (gn Hj)) := by rw [show b + 8 = gn Hj by omega]; rfl
  rw [eAl] at Al
  have nl' : gn (setR (newG Hj 100 13 e 13) 19 e (some (gn Hj))) = gn Hj + 1 := rfl
  clear Ak
  rw [← nl']
  generalize setR (newG Hj 100 13 e 13) 19 e (some (gn Hj)) = Hl at *
  -- the probe
  have nl := Al.2.2.1
  have Am : Stg Z G (newG Hl 3 0 e 3) e b 9 8 (0 + 200 + 8 + 9 + 12 + 3 + 3 + 13 + 3) := Al.part (by decide) (Md.rf.new (by have := Al.e0.1; omega)) (by show gn Hl + 1 = _; omega) (Nat.le_refl _) (fun j j1 j2 => by
    have ej : j = 9 := by omega
    subst ej
    have eb : b + 9 = gn Hl := by omega
    rw [eb]
    refine ⟨gP_new (N := 3), ?_⟩
    unfold Pt
    rw [if_neg (by decide), if_neg (by decide), if_neg (by decide), if_neg (by decide), if_neg (by decide), if_neg (by decide), if_neg (by decide), if_pos rfl, eb]
    exact gK_new (N := 3))
  have An := Am.fld (j := 9) (by decide) ⟨by decide, by decide, by decide⟩ (fun i i1 i2 i4 i5 => by omega) (by decide)
  have eAn : setR (newG Hl 3 0 e 3) (fldE 9) e (some (b + 9)) = setR (newG Hl 3 0 e 3) 20 e (some (gn Hl)) := by rw [show b + 9 = gn Hl by omega]; rfl
  rw [eAn] at An
  have keM : gK (newG Hl 3 0 e 3) e = 2 := Am.e0.2.1
  refine c_X3_init (r_X2_init_85 e ⟨e, rfl, keM, keM, ?_, ?_⟩)
  · have h1 : sw * li ≤ 6 * 6 := Int.mul_le_mul hsw.2 hli.2 (by omega) (by omega)
    have h2 : 0 ≤ sw * li := Int.mul_nonneg (by omega) (by omega)
    omega
  clear Am
  have nM : gn (newG Hl 3 0 e 3) = gn Hl + 1 := rfl
  have sM : gs (newG Hl 3 0 e 3) = gs Hl + 3 := rfl
  have nN : gn (setR (newG Hl 3 0 e 3) 20 e (some (gn Hl))) = gn Hl + 1 := rfl
  generalize newG Hl 3 0 e 3 = Hm at *
  have sN : gs (setR Hm 20 e (some (gn Hl))) = gs Hm := rfl
  generalize setR Hm 20 e (some (gn Hl)) = Hn at *
  refine ⟨by rw [gK_old (by omega)]; exact keM, ?_⟩
  rw [show gn Hm = gn Hn by omega]
  exact An.last hz0 hFz hsw hli hmi q
end NEWX
