/-! THE EXCHANGE, 9: laying a call that is known; swapping a chain -/
section SWAP
variable {Z : ZT} {d : Nat} {G : GH} {Q : TR → GH → Prop} {e b : Nat} {S T : St}
theorem sum_le_n {p : Nat → Bool} (n : Nat) : sumI (fun k => b2i (p k)) n 0 ≤ (n : Int) := by
  rw [sumI_len]
  have := List.length_filter_le p (List.range n)
  rw [List.length_range] at this
  omega
theorem carrA_sum {c : Nat} {m : Int} {N : Nat} (hc : c < N) (hT : T 51 c = -1) (hm : m ≠ -1) : sumI (fun x => b2i (decide (up2 T 51 c m 51 x ≠ -1))) N 0 = sumI (fun x => b2i (decide (T 51 x ≠ -1))) N 0 + 1 := by
  have s := sum_one (f := fun x => b2i (decide (up2 T 51 c m 51 x ≠ -1))) (g := fun x => b2i (decide (T 51 x ≠ -1))) N hc (fun x hx => by rw [up2_ne (Or.inr hx)])
  rw [up2_at, hT, decide_eq_true hm] at s
  exact s
theorem carrA_lay {A : Nat → Nat} {c m nf nt a : Nat} {f : Int → Option Nat} (hc : c < (T 0 47).toNat) (hm : m ≤ 8) (hT : T 51 c = -1) (hfree : ∀ t, carriedAt T (m : Int) (endS T c t) t = -1) (hnf : endS T c false = (nf : Int) ∧ nf ≤ 5) (hnt : endS T c true = (nt : Int) ∧ nt ≤ 5) (ha : A c = a)
    (hf : ∀ (m i : Nat) (t : Bool), m ≤ 8 → i ≤ 5 → f (spc m i t.toNat) = if carriedAt T (m : Int) (i : Int) t = -1 then none else some (A (carriedAt T (m : Int) (i : Int) t).toNat)) :
    ∀ (m' i : Nat) (t : Bool), m' ≤ 8 → i ≤ 5 → updM (updM f (spc m nf false.toNat) (some a)) (spc m nt true.toNat) (some a) (spc m' i t.toNat) = if carriedAt (up2 T 51 c (m : Int)) (m' : Int) (i : Int) t = -1 then none else some (A (carriedAt (up2 T 51 c (m : Int)) (m' : Int) (i : Int) t).toNat) := by
  intro m' i t hm' hi
  rw [carr_lay hc hT hfree (by omega)]
  by_cases h : (m' : Int) = (m : Int) ∧ endS T c t = (i : Int)
  · rw [if_pos h, if_neg (by omega), Int.toNat_natCast, ha]
    obtain ⟨h1, h2⟩ := h
    have h1 : m' = m := by omega
    subst h1
    cases t
    · have : nf = i := by omega
      subst this
      rw [updM_ne (fun z => spc_f z hnt.2 hi), updM_at]
    · have : nt = i := by omega
      subst this
      rw [updM_at]
  · rw [if_neg h, ← hf m' i t hm' hi]
    cases t
    · rw [updM_ne (fun z => spc_f z hnt.2 hi), updM_ne (fun z => h (by
        obtain ⟨z1, z2, -⟩ := spc_inj hi (by decide) hnf.2 (by decide) z
        exact ⟨by omega, by omega⟩))]
    · rw [updM_ne (fun z => h (by
        obtain ⟨z1, z2, -⟩ := spc_inj hi (by decide) hnt.2 (by decide) z
        exact ⟨by omega, by omega⟩)), updM_ne (fun z => spc_f z.symm hi hnf.2)]
theorem free_f {A : Nat → Nat} {m n : Nat} {t : Bool} {f : Int → Option Nat} (hm : m ≤ 8) (hn : n ≤ 5) (h : carriedAt T (m : Int) (n : Int) t = -1)
    (hf : ∀ (m i : Nat) (t : Bool), m ≤ 8 → i ≤ 5 → f (spc m i t.toNat) = if carriedAt T (m : Int) (i : Int) t = -1 then none else some (A (carriedAt T (m : Int) (i : Int) t).toNat)) : f (spc m n t.toNat) = none := by
  rw [hf m n t hm hn, if_pos h]
/-- a known call is laid -/
theorem xc_lay {c m : Nat} (R : Rep Z G e b S T) (W : RwS S) (SR : SameR S T) (hc : c < (S 0 47).toNat) (hm : m ≤ 8) (hT : T 51 c = -1) (hfree : ∀ t, carriedAt T (m : Int) (endS S c t) t = -1) (hz : Fz G)
    (q : ∀ G', Md (PL G b (fun x => x = callA G b S c)) G G' → Rm 4 18 G G' (b + 2) → Rep Z G' e b (up2 S 51 c (m : Int)) (up2 T 51 c (m : Int)) → Q (.inl none) G') :
    TC Z (d + 6) mi_X2_lay [tR (some e), tR (some (callA G b S c)), tI (m : Int)] G Q := by
  have C := R.co hc
  obtain ⟨e39, e47, ee⟩ := SR.eq
  obtain ⟨⟨r1, r2, r3⟩, r4⟩ := W.2.1 c hc
  obtain ⟨nf, hnf⟩ := r4 false
  obtain ⟨nt, hnt⟩ := r4 true
  obtain ⟨n, f, M, hn, hf⟩ := id R.2.2.2.1
  have W47 := W.1.2
  have hA : ∀ x, x = callA G b S c → gP G x = e ∧ gK G x = 9 := fun x hx => by rw [hx]; exact ⟨C.2.1, C.1⟩
  have n44 : n ≤ 44 := by
    have s := sum_le_n (p := fun x => decide (T 51 x ≠ -1)) (S 0 47).toNat
    omega
  have g1 : carriedAt T (m : Int) (nf : Int) false = -1 := by rw [← hnf.1]; exact hfree false
  have g2 : carriedAt T (m : Int) (nt : Int) true = -1 := by rw [← hnt.1]; exact hfree true
  refine jx_lay R.1 W R.f39 C.1 C.2.1 C.2.2.1 hz hm ⟨C.2.2.2.2.1, by omega, hnf.1, hnf.2⟩ ⟨C.2.2.2.2.2.1, by omega, hnt.1, hnt.2⟩ M n44 (free_f hm hnf.2 g1 hf) (free_f hm hnt.2 g2 hf) (fun i t hi => carr_bin M W SR hf hm hi) (fun G' m' rm M' i' j' => ?_)
  obtain ⟨sh, sc, tl, cA, cg, fp, co⟩ := R.pl m' hA
  have k' : gK G' (callA G b S c) = 9 := (m'.k C.2.2.1).trans C.1
  refine q G' m' rm ⟨sh, sc.eq (fun k _ _ _ => up2_ne (Or.inl (by decide))) (funext fun x => up2_ne (Or.inl (by decide))), ?_, ⟨_, _, M', ?_, fun mm i t h1 h2 => ?_⟩, tl.eq ⟨fun k _ => up2_ne (Or.inl (by decide)), fun f x hf _ => up2_ne (Or.inl (by omega))⟩⟩
  · refine CallsE.one R W hc rfl m' (fun k => up2_ne (Or.inl (by decide))) (funext fun x => up2_ne (Or.inl (by decide))) (funext fun x => up2_ne (Or.inl (by decide))) (funext fun x => up2_ne (Or.inl (by decide))) (fun f x hx _ _ => up2_ne (Or.inr hx)) ?_
    obtain ⟨x1, x2, x3, x4, x5, x6, x7, x8, x9, x10⟩ := C
    refine ⟨k', (m'.p x3).trans x2, Nat.lt_of_lt_of_le x3 m'.1, (j' 105 (by decide)).trans ?_, (j' 106 (by decide)).trans ?_, (j' 107 (by decide)).trans ?_, (j' 108 (by decide)).trans ?_, (j' 109 (by decide)).trans ?_, i'.trans up2_at.symm, (j' 111 (by decide)).trans ?_⟩ <;> (rw [up2_ne (Or.inl (by decide))]; assumption)
  · rw [show (up2 S 51 c (m : Int)) 0 47 = S 0 47 from up2_ne (Or.inl (by decide)), carrA_sum hc hT (by omega)]
    omega
  · rw [carrA_lay (A := callA G b S) (by rw [e47]; exact hc) hm hT (fun t => by rw [ee]; exact hfree t) (by rw [ee]; exact hnf) (by rw [ee]; exact hnt) rfl hf mm i t h1 h2, callA_eq (funext fun x => up2_ne (Or.inl (by decide))), cA]
/-- a call's middle is set; the map stays -/
theorem xr_mid {c : Nat} {v : Int} (R : Rep Z G e b S T) (W : RwS S) (hc : c < (S 0 47).toNat) : Rep Z (setI G 110 (callA G b S c) v) e b (up2 S 51 c v) T ∧ Md (PL G b (fun x => x = callA G b S c)) G (setI G 110 (callA G b S c) v) := by
  have C := R.co hc
  have hA : ∀ x, x = callA G b S c → gP G x = e ∧ gK G x = 9 := fun x hx => by rw [hx]; exact ⟨C.2.1, C.1⟩
  have m1 : Md (fun x => x = callA G b S c) G (setI G 110 (callA G b S c) v) := Md.rf.setI C.2.2.1 (fun _ => rfl)
  have m' : Md (PL G b (fun x => x = callA G b S c)) G (setI G 110 (callA G b S c) v) := m1.mono (fun x _ h => Or.inr (Or.inr h))
  obtain ⟨sh, sc, tl, cA, cg, fp, co⟩ := R.pl m' hA
  obtain ⟨n, f, M, hn, hf⟩ := R.2.2.2.1
  have p2 : gP G (b + 2) = e := R.1.2.2.2.2.2.2.1 2 (by decide) (by decide)
  have le := R.1.2.2.1
  have k2 := R.1.2.2.2.2.2.2.2.2.2.1
  refine ⟨⟨sh, sc.eq (fun k _ _ _ => up2_ne (Or.inl (by decide))) (funext fun x => up2_ne (Or.inl (by decide))), ?_, ⟨n, f, ?_, ?_, fun mm i t h1 h2 => ?_⟩, tl.eq ⟨fun k _ => up2_ne (Or.inl (by decide)), fun f x hf _ => up2_ne (Or.inl (by omega))⟩⟩, m'⟩
  · refine CallsE.one R W hc rfl m' (fun k => up2_ne (Or.inl (by decide))) (funext fun x => up2_ne (Or.inl (by decide))) (funext fun x => up2_ne (Or.inl (by decide))) (funext fun x => up2_ne (Or.inl (by decide))) (fun f x hx _ _ => up2_ne (Or.inr hx)) ?_
    obtain ⟨x1, x2, x3, x4, x5, x6, x7, x8, x9, x10⟩ := C
    refine ⟨x1, x2, x3, (hI_ne (Or.inl (by decide))).trans ?_, (hI_ne (Or.inl (by decide))).trans ?_, (hI_ne (Or.inl (by decide))).trans ?_, (hI_ne (Or.inl (by decide))).trans ?_, (hI_ne (Or.inl (by decide))).trans ?_, hI_at.trans up2_at.symm, (hI_ne (Or.inl (by decide))).trans ?_⟩ <;> (rw [up2_ne (Or.inl (by decide))]; assumption)
  · refine M.md m1 (fun x hx ho ha => ?_) (fun k' c' hk' => hk'.md m1 (fun x hx ha => R.1.fp x hx (Or.inr (Or.inl (by rw [ha]; exact C.2.1)))))
    rw [ha] at ho
    rcases ho with ho | ho
    · have := C.1
      rw [ho, k2] at this
      omega
    · rw [C.2.1] at ho; omega
  · rw [show (up2 S 51 c v) 0 47 = S 0 47 from up2_ne (Or.inl (by decide))]; exact hn
  · rw [callA_eq (funext fun x => up2_ne (Or.inl (by decide))), cA]; exact hf mm i t h1 h2
/-- the calls that stand in the rows -/
def RowA (G : GH) (b : Nat) (S : St) : Nat → Prop := fun x => ∃ c : Nat, c < (S 0 47).toNat ∧ x = callA G b S c
theorem Rep.rowA (R : Rep Z G e b S T) : ∀ x, RowA G b S x → gP G x = e ∧ gK G x = 9 := fun x ⟨c, hc, hx⟩ => by rw [hx]; exact ⟨(R.co hc).2.1, (R.co hc).1⟩
/-- a chain's swap: the rows of l change sides -/
def flipS (p q : Int) (l : List Nat) (S : St) : St := fun f x => if f = 51 ∧ x ∈ l then (if S 51 x = p then q else p) else S f x
theorem flipS_ne {p q : Int} {l : List Nat} {f x : Nat} (h : f ≠ 51) : flipS p q l S f x = S f x := if_neg (fun z => h z.1)
theorem flipS_in {p q : Int} {l : List Nat} {x : Nat} (h : x ∈ l) : flipS p q l S 51 x = if S 51 x = p then q else p := if_pos ⟨rfl, h⟩
theorem flipS_out {p q : Int} {l : List Nat} {f x : Nat} (h : x ∉ l) : flipS p q l S f x = S f x := if_neg (fun z => h z.2)
def liftS (l : List Nat) (S : St) : St := fun f x => if f = 51 ∧ x ∈ l then -1 else S f x
theorem liftS_ne {l : List Nat} {f x : Nat} (h : f ≠ 51) : liftS l S f x = S f x := if_neg (fun z => h z.1)
theorem liftS_in {l : List Nat} {x : Nat} (h : x ∈ l) : liftS l S 51 x = -1 := if_pos ⟨rfl, h⟩
theorem liftS_out {l : List Nat} {f x : Nat} (h : x ∉ l) : liftS l S f x = S f x := if_neg (fun z => h z.2)
theorem up_flip {p q : Int} {pre : List Nat} {x : Nat} (hx : x ∉ pre) : up2 (up2 (flipS p q pre S) 51 x (-1)) 51 x (if S 51 x = p then q else p) = flipS p q (pre ++ [x]) S := by
  funext f y
  by_cases hf : f = 51
  · subst hf
    by_cases hy : y = x
    · subst hy
      rw [up2_at, flipS_in (by simp)]
    · rw [up2_ne (Or.inr hy), up2_ne (Or.inr hy)]
      by_cases hp : y ∈ pre
      · rw [flipS_in hp, flipS_in (by simp [hp])]
      · rw [flipS_out hp, flipS_out (by simp [hp, hy])]
  · rw [up2_ne (Or.inl hf), up2_ne (Or.inl hf), flipS_ne hf, flipS_ne hf]
theorem up_lift {pre : List Nat} {x : Nat} : up2 (liftS pre S) 51 x (-1) = liftS (pre ++ [x]) S := by
  funext f y
  by_cases hf : f = 51
  · subst hf
    by_cases hy : y = x
    · subst hy
      rw [up2_at, liftS_in (by simp)]
    · rw [up2_ne (Or.inr hy)]
      by_cases hp : y ∈ pre
      · rw [liftS_in hp, liftS_in (by simp [hp])]
      · rw [liftS_out hp, liftS_out (by simp [hp, hy])]
  · rw [up2_ne (Or.inl hf), liftS_ne hf, liftS_ne hf]
theorem up_unlift {l : List Nat} {x : Nat} (hx : x ∉ l) : up2 (liftS (x :: l) S) 51 x (S 51 x) = liftS l S := by
  funext f y
  by_cases hf : f = 51
  · subst hf
    by_cases hy : y = x
    · subst hy
      rw [up2_at, liftS_out hx]
    · rw [up2_ne (Or.inr hy)]
      by_cases hp : y ∈ l
      · rw [liftS_in hp, liftS_in (by simp [hp])]
      · rw [liftS_out hp, liftS_out (by simp [hp, hy])]
  · rw [up2_ne (Or.inl hf), liftS_ne hf, liftS_ne hf]
theorem up_self {x : Nat} : up2 S 51 x (S 51 x) = S := by
  funext f y
  by_cases h : f = 51 ∧ y = x
  · obtain ⟨rfl, rfl⟩ := h
    rw [up2_at]
  · exact up2_ne (if hf : f = 51 then Or.inr (fun hy => h ⟨hf, hy⟩) else Or.inl hf)
theorem SameR.lift {l : List Nat} (h : SameR S T) : SameR S (liftS l T) := ⟨fun k => (liftS_ne (by decide)).trans (h.1 k), fun f c hf => (liftS_ne hf).trans (h.2 f c hf)⟩
theorem SameR.flip {p q : Int} {l : List Nat} (h : SameR S T) : SameR (flipS p q l S) T := ⟨fun k => (h.1 k).trans (flipS_ne (by decide)).symm, fun f c hf => (h.2 f c hf).trans (flipS_ne hf).symm⟩
theorem Col.lift {l : List Nat} (C : Col S) : Col (liftS l S) := by
  have ee : endS (liftS l S) = endS S := endS_eq (liftS_ne (by decide)) (funext fun x => liftS_ne (by decide)) (funext fun x => liftS_ne (by decide))
  intro c c' hc hc' h1 h2 t h3
  rw [liftS_ne (by decide)] at hc hc'
  rw [ee] at h3
  by_cases hl : c ∈ l
  · rw [liftS_in hl] at h2; exact absurd rfl h2
  · by_cases hl' : c' ∈ l
    · rw [liftS_in hl'] at h1; exact absurd h1 h2
    · rw [liftS_out hl, liftS_out hl'] at h1
      rw [liftS_out hl] at h2
      exact C c c' hc hc' h1 h2 t h3
theorem RwS.flip {p q : Int} {l : List Nat} (W : RwS S) : RwS (flipS p q l S) := W.eq (flipS_ne (by decide)) (flipS_ne (by decide)) (funext fun x => flipS_ne (by decide)) (funext fun x => flipS_ne (by decide)) (funext fun x => flipS_ne (by decide))
theorem PL.trans {A A1 : Nat → Prop} {G1 G2 : GH} (m : Md (PL G b A) G G1) (m1 : Md (PL G1 b A1) G1 G2) (h : ∀ x, A1 x → A x) : Md (PL G b A) G G2 :=
  m.trans' m1 (fun x hx hp => by
    rcases hp with hp | hp | hp
    · exact Or.inl (by unfold Ow at hp ⊢; rw [m.p hx] at hp; exact hp)
    · exact Or.inr (Or.inl hp)
    · exact Or.inr (Or.inr (h x hp)))
theorem liftS_nil : liftS [] S = S := by funext f x; exact liftS_out (by simp)
theorem flipS_nil {p q : Int} : flipS p q [] S = S := by funext f x; exact flipS_out (by simp)
theorem lift_flip {p q : Int} {l : List Nat} : liftS l (flipS p q l S) = liftS l S := by
  funext f x
  by_cases hf : f = 51
  · subst hf
    by_cases hx : x ∈ l
    · rw [liftS_in hx, liftS_in hx]
    · rw [liftS_out hx, liftS_out hx, flipS_out hx]
  · rw [liftS_ne hf, liftS_ne hf, flipS_ne hf]
theorem getD_mid {α : Type} {pre post : List α} {x d : α} : (pre ++ x :: post).getD pre.length d = x := by simp [List.getD_eq_getElem?_getD]
/-- the swap of a chain -/
theorem xc_swap {pa : Nat} {mid p q : Int} {l : List Nat} (R : Rep Z G e b S S) (W : RwS S) (P : PathO Z G pa mid p q (l.map (callA G b S))) (nd : l.Nodup) (l10 : l.length ≤ 10) (hl : ∀ x ∈ l, x < (S 0 47).toNat ∧ (S 51 x = p ∨ S 51 x = q)) (hp : l ≠ [] → (0 ≤ p ∧ p < 9) ∧ (0 ≤ q ∧ q < 9)) (C1 : Col S) (C2 : Col (flipS p q l S)) (hz : Fz G)
    (qq : ∀ G', Md (PL G b (RowA G b S)) G G' → Rm (4 * l.length) (18 * l.length) G G' (b + 2) → Rep Z G' e b (flipS p q l S) (flipS p q l S) → Q (.inl none) G') :
    TC Z (d + 7) mi_X2_swap [tR (some e), tR (some pa)] G Q := by
  have hA := R.rowA
  have pn := PL.no R.1 hA
  have cAof : ∀ {G1 : GH} {S1 : St}, Md (PL G b (RowA G b S)) G G1 → S1 48 = S 48 → ∀ x, callA G1 b S1 x = callA G b S x := fun {G1 S1} m h x => (callA_eq h x).trans (callA_md1 R.1 m (pn.2.1 1 (by decide) (by decide) (by decide) (by decide)) x)
  have fpx : FP G (PL G b (RowA G b S)) := R.1.fp.mono (PL.reg R.1 hA)
  -- the second loop
  have loop2 : ∀ (post pre : List Nat) (G1 : GH) (o3 o4 : Option Value), l = pre ++ post → Md (PL G b (RowA G b S)) G G1 → Rm (4 * pre.length) (18 * pre.length) G G1 (b + 2) → Rep Z G1 e b (flipS p q l S) (liftS post (flipS p q l S)) →
      TW Z mi_X2_swap (d + 7) 67 [some (tR (some e)), some (tR (some pa)), some (tI (pre.length : Int)), o3, o4] [] G1 Q := by
    intro post
    induction post with
    | nil =>
      intro pre G1 o3 o4 hlp m rm R1
      obtain ⟨k1, k2, k3, k4, k5, k6, u, k7, k8, k9⟩ := P.fp m fpx
      rw [List.append_nil] at hlp
      subst hlp
      rw [liftS_nil] at R1
      refine r_X2_swap_67 ⟨pa, rfl, k1, c_X8_length ⟨k1, fun v1 hv1 => ⟨u, hv1.symm.trans k7, k9.1, ls_size k9 (r_X8_length_9 (r_X2_swap_72 ⟨by omega, ?_, fun _ => qq G1 m rm R1, fun hn => ?_⟩))⟩⟩⟩
      · rw [List.length_map]; omega
      · rw [List.length_map] at hn; omega
    | cons x post ih =>
      intro pre G1 o3 o4 hlp m rm R1
      obtain ⟨k1, k2, k3, k4, k5, k6, u, k7, k8, k9⟩ := P.fp m fpx
      have ll : l.length = pre.length + (post.length + 1) := by rw [hlp, List.length_append, List.length_cons]
      have hne : l.map (callA G b S) ≠ [] := by rw [hlp]; simp
      have xl : x ∈ l := by rw [hlp]; simp
      have hN := (hl x xl).1
      have cA1 := cAof (S1 := flipS p q l S) m (funext fun x => flipS_ne (by decide)) x
      have CO := R1.co (c := x) (by rw [flipS_ne (by decide)]; exact hN)
      rw [cA1] at CO
      have gx : (l.map (callA G b S)).getD pre.length 0 = callA G b S x := by rw [hlp, List.map_append, List.map_cons]; have := getD_mid (pre := pre.map (callA G b S)) (post := post.map (callA G b S)) (x := callA G b S x) (d := 0); rw [List.length_map] at this; exact this
      have f51 : ∃ mx : Nat, mx ≤ 8 ∧ flipS p q l S 51 x = (mx : Int) := by
        have r := hp (by rw [hlp]; simp)
        rw [flipS_in xl]
        split
        · exact ⟨q.toNat, by omega, by omega⟩
        · exact ⟨p.toNat, by omega, by omega⟩
      obtain ⟨mx, mx8, hmx⟩ := f51
      have f110 : fI G1 110 (callA G b S x) = (mx : Int) := CO.2.2.2.2.2.2.2.2.1.trans hmx
      have nd' : (x :: post).Nodup := by rw [hlp] at nd; exact (List.nodup_append.mp nd).2.1
      have ndx := (List.nodup_cons.mp nd').1
      have A9 := k9.2.2.2 hne
      refine r_X2_swap_67 ⟨pa, rfl, k1, c_X8_length ⟨k1, fun v1 hv1 => ⟨u, hv1.symm.trans k7, k9.1, ls_size k9 (r_X8_length_9 (r_X2_swap_72 ⟨by omega, ?_, fun hle => ?_, fun _ => ⟨pa, rfl, k1, fun v4 hv4 => ⟨u, hv4.symm.trans k7, k9.1, jc_get (d := d + 3) A9 (by rw [List.length_map]; omega) ?_⟩⟩⟩))⟩⟩⟩
      · rw [List.length_map]; omega
      · rw [List.length_map] at hle; omega
      rw [gx]
      refine r_X2_swap_86 ⟨fun b' hb' => by cases hb'; exact CO.1, pa, rfl, k1, fun v3 hv3 => ⟨u, hv3.symm.trans k7, k9.1, jc_get (d := d + 3) A9 (by rw [List.length_map]; omega) ?_⟩⟩
      rw [gx]
      refine r_X2_swap_99 ⟨fun b' hb' => by cases hb'; exact CO.1, _, rfl, CO.1, e, rfl, R1.k, ?_⟩
      rw [f110, ← cA1]
      have ce : ∀ (t : Bool) , endS (liftS (x :: post) (flipS p q l S)) = endS (flipS p q l S) := fun t => endS_eq (liftS_ne (by decide)) (funext fun x => liftS_ne (by decide)) (funext fun x => liftS_ne (by decide))
      refine xc_lay R1 W.flip SameR.rf.lift (by rw [flipS_ne (by decide)]; exact hN) mx8 (liftS_in (by simp)) (fun t => carriedAt_of (fun y hy h1 h2 => ?_)) (m.fz hz) (fun G2 m2 rm2 R2 => r_X2_swap_108 ?_)
      · rw [liftS_ne (by decide)] at hy
        rw [ce t] at h2
        by_cases hyl : y ∈ x :: post
        · rw [liftS_in hyl] at h1; omega
        · rw [liftS_out hyl] at h1
          have := C2 y x hy (by rw [flipS_ne (by decide)]; exact hN) (h1.trans hmx.symm) (by rw [h1]; omega) t h2
          exact hyl (by rw [this]; simp)
      · rw [← hmx, up_self, up_unlift ndx] at R2
        have mm := PL.trans m m2 (fun z hz' => ⟨x, hN, hz'.trans cA1⟩)
        have rr := ih (pre ++ [x]) G2 o3 o4 (by rw [hlp]; simp) mm (by
          have := rm.trans rm2
          rw [List.length_append, List.length_cons, List.length_nil]
          unfold Rm at this ⊢
          omega) R2
        rw [show ((pre ++ [x]).length : Int) = (pre.length : Int) + 1 by simp] at rr
        exact rr
  have loop1 : ∀ (post pre : List Nat) (G1 : GH) (o3 o4 : Option Value), l = pre ++ post → Md (PL G b (RowA G b S)) G G1 → gn G1 = gn G → gs G1 = gs G → capM G1 (b + 2) = capM G (b + 2) → Rep Z G1 e b (flipS p q pre S) (liftS pre S) →
      TW Z mi_X2_swap (d + 7) 2 [some (tR (some e)), some (tR (some pa)), some (tI (pre.length : Int)), o3, o4] [] G1 Q := by
    intro post
    induction post with
    | nil =>
      intro pre G1 o3 o4 hlp m n1 s1 c1 R1
      obtain ⟨k1, k2, k3, k4, k5, k6, u, k7, k8, k9⟩ := P.fp m fpx
      rw [List.append_nil] at hlp
      refine r_X2_swap_2 ⟨pa, rfl, k1, c_X8_length ⟨k1, fun v1 hv1 => ⟨u, hv1.symm.trans k7, k9.1, ls_size k9 (r_X8_length_9 (r_X2_swap_7 ⟨by rw [← hlp]; omega, ?_, fun _ => ?_, fun hn => ?_⟩))⟩⟩⟩
      · rw [List.length_map]; omega
      · refine loop2 l [] G1 o3 o4 rfl m (Rm.same c1 (by omega) (by omega)) ?_
        rw [lift_flip, hlp]
        exact R1
      · rw [List.length_map, hlp] at hn; omega
    | cons x post ih =>
      intro pre G1 o3 o4 hlp m n1 s1 c1 R1
      obtain ⟨k1, k2, k3, k4, k5, k6, u, k7, k8, k9⟩ := P.fp m fpx
      have ll : l.length = pre.length + (post.length + 1) := by rw [hlp, List.length_append, List.length_cons]
      have hne : l.map (callA G b S) ≠ [] := by rw [hlp]; simp
      have xl : x ∈ l := by rw [hlp]; simp
      have hN := (hl x xl).1
      have ndx : x ∉ pre := by
        intro hx
        rw [hlp] at nd
        exact (List.nodup_append.mp nd).2.2 x hx x (by simp) rfl
      have cA1 := cAof (S1 := flipS p q pre S) m (funext fun x => flipS_ne (by decide)) x
      have hN1 : x < (flipS p q pre S 0 47).toNat := by rw [flipS_ne (by decide)]; exact hN
      have CO := R1.co hN1
      rw [cA1] at CO
      have gx : (l.map (callA G b S)).getD pre.length 0 = callA G b S x := by rw [hlp, List.map_append, List.map_cons]; have := getD_mid (pre := pre.map (callA G b S)) (post := post.map (callA G b S)) (x := callA G b S x) (d := 0); rw [List.length_map] at this; exact this
      have r := hp (by rw [hlp]; simp)
      obtain ⟨mx, mx8, hmx⟩ : ∃ mx : Nat, mx ≤ 8 ∧ S 51 x = (mx : Int) := by
        rcases (hl x xl).2 with h | h
        · exact ⟨p.toNat, by omega, by omega⟩
        · exact ⟨q.toNat, by omega, by omega⟩
      have fl : flipS p q pre S 51 x = (mx : Int) := (flipS_out ndx).trans hmx
      have f110 : fI G1 110 (callA G b S x) = (mx : Int) := CO.2.2.2.2.2.2.2.2.1.trans fl
      have A9 := k9.2.2.2 hne
      -- the lift, then the other side
      have go : ∀ (o : Int), (if S 51 x = p then q else p) = o → TC Z (d + 6) mi_X2_lift [tR (some e), tR (some (callA G b S x))] G1 (KQ Z mi_X2_swap (d + 7) 50 53 [some (tR (some e)), some (tR (some pa)), some (tI (pre.length : Int)), some (tR (some (callA G b S x))), some (tI o)] [] Q) := by
        intro o ho
        rw [← cA1]
        refine xc_lift R1 W.flip (SameR.flip SameR.rf.lift) C1.lift hN1 mx8 fl ((liftS_out ndx).trans hmx) (fun G2 m2 n2 s2 c2 R2 => r_X2_swap_53 ⟨_, rfl, ?_, ?_⟩)
        · rw [m2.k (by rw [cA1]; exact CO.2.2.1), cA1]; exact CO.1
        · have W2 : RwS (up2 (flipS p q pre S) 51 x (-1)) := W.flip.eq (up2_ne (Or.inl (by decide))) (up2_ne (Or.inl (by decide))) (funext fun x => up2_ne (Or.inl (by decide))) (funext fun x => up2_ne (Or.inl (by decide))) (funext fun x => up2_ne (Or.inl (by decide)))
          have mm := PL.trans m m2 (fun z hz' => ⟨x, hN, hz'.trans cA1⟩)
          have cA2 := cAof (S1 := up2 (flipS p q pre S) 51 x (-1)) mm (funext fun x => (up2_ne (Or.inl (by decide))).trans (flipS_ne (by decide))) x
          obtain ⟨R3, m3⟩ := xr_mid (v := o) (c := x) R2 W2 (by rw [up2_ne (Or.inl (by decide))]; exact hN1)
          rw [cA2] at R3 m3
          rw [← ho, up_flip ndx, up_lift] at R3
          rw [cA1]
          have mm3 := PL.trans mm m3 (fun z hz' => ⟨x, hN, hz'⟩)
          rw [← ho] at mm3 ⊢
          have rr := ih (pre ++ [x]) _ (some (tR (some (callA G b S x)))) (some (tI (if S 51 x = p then q else p))) (by rw [hlp]; simp) mm3 (by show gn G2 = _; omega) (by show gs G2 = _; omega) (by show capM G2 (b + 2) = _; rw [c2, c1]) R3
          rw [show ((pre ++ [x]).length : Int) = (pre.length : Int) + 1 by simp] at rr
          exact rr
      refine r_X2_swap_2 ⟨pa, rfl, k1, c_X8_length ⟨k1, fun v1 hv1 => ⟨u, hv1.symm.trans k7, k9.1, ls_size k9 (r_X8_length_9 (r_X2_swap_7 ⟨by omega, ?_, fun hle => ?_, fun _ => ⟨pa, rfl, k1, fun v4 hv4 => ⟨u, hv4.symm.trans k7, k9.1, jc_get (d := d + 3) A9 (by rw [List.length_map]; omega) ?_⟩⟩⟩))⟩⟩⟩
      · rw [List.length_map]; omega
      · rw [List.length_map] at hle; omega
      rw [gx]
      refine r_X2_swap_20 ⟨fun b' hb' => by cases hb'; exact CO.1, _, rfl, CO.1, pa, rfl, k1, by rw [f110]; omega, by rw [k5]; omega, fun hne' => ⟨pa, rfl, k1, R1.k, ?_⟩, fun heq => ⟨pa, rfl, k1, R1.k, ?_⟩⟩
      · rw [k5]
        rw [f110, k5, ← hmx] at hne'
        exact go p (if_neg hne')
      · rw [k6]
        rw [f110, k5, ← hmx] at heq
        exact go q (if_pos heq)
  exact c_X2_swap (loop1 l [] G none none rfl Md.rf rfl rfl rfl (by rw [flipS_nil, liftS_nil]; exact R))
end SWAP
