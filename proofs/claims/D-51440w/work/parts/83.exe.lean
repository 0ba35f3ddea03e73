/-! THE EXCHANGE, 14: a call ends -/
section END1
variable {Z : ZT} {d : Nat} {G : GH} {Q : TR → GH → Prop} {e b : Nat} {S S' T T' : St}
/-- what is found first, once a place is out -/
theorem fnd_shf {p p' : Nat → Bool} {N c : Nat} (hc : c < N) (h : ∀ x, x < N - 1 → p' x = p (shf c x)) (hF : p c = false) : fnd p' (N - 1) 0 = if fnd p N 0 = -1 then -1 else if fnd p N 0 < (c : Int) then fnd p N 0 else fnd p N 0 - 1 := by
  by_cases hs : fnd p N 0 = -1
  · rw [if_pos hs]
    refine fnd_of_none _ _ (fun x _ hx => ?_)
    rw [h x (by omega)]
    exact fnd_none _ _ hs _ (Nat.zero_le _) (by unfold shf; split <;> omega)
  · have rg := fnd_rng (p := p) N 0
    obtain ⟨x, hx⟩ : ∃ x : Nat, fnd p N 0 = (x : Int) := ⟨(fnd p N 0).toNat, by omega⟩
    have fs := fnd_some _ _ _ hx
    have hxc : x ≠ c := fun z => by rw [z, hF] at fs; exact absurd fs.2.2.1 (by decide)
    rw [if_neg hs, hx]
    by_cases hl : x < c
    · rw [if_pos (by omega)]
      refine fnd_of_some _ _ x (Nat.zero_le _) (by omega) ?_ (fun y _ hy => ?_)
      · rw [h x (by omega), show shf c x = x from if_pos hl]; exact fs.2.2.1
      · rw [h y (by omega), show shf c y = y from if_pos (by omega)]; exact fs.2.2.2 y (Nat.zero_le _) hy
    · rw [if_neg (by omega)]
      have := fnd_of_some (p := p') (N - 1) 0 (x - 1) (Nat.zero_le _) (by omega) (by rw [h _ (by omega), show shf c (x - 1) = x by unfold shf; rw [if_neg (by omega)]; omega]; exact fs.2.2.1) (fun y _ hy => by
        rw [h y (by omega)]
        by_cases hyc : y < c
        · rw [show shf c y = y from if_pos hyc]; exact fs.2.2.2 y (Nat.zero_le _) (by omega)
        · rw [show shf c y = y + 1 from if_neg hyc]; exact fs.2.2.2 (y + 1) (Nat.zero_le _) (by omega))
      rw [this]
      omega
theorem sum_shf {p p' : Nat → Int} {c : Nat} : ∀ k : Nat, (∀ x, x < c + k → p' x = p (shf c x)) → p c = 0 → sumI p' (c + k) 0 = sumI p (c + k + 1) 0 := by
  intro k
  induction k with
  | zero =>
    intro h h0
    rw [Nat.add_zero, sumI_snoc, Nat.zero_add, h0, sumI_congr (f := p') (g := p) c 0 (fun x _ hx => by rw [h x (by omega), show shf c x = x from if_pos (by omega)])]
    omega
  | succ k ih =>
    intro h h0
    rw [show c + (k + 1) = (c + k) + 1 by omega, sumI_snoc, ih (fun x hx => h x (by omega)) h0, sumI_snoc (f := p) (c + k + 1), Nat.zero_add, Nat.zero_add, h (c + k) (by omega), show shf c (c + k) = c + k + 1 from if_neg (by omega)]
/-- rows without the one at c; c isn't laid -/
theorem carr_del {c : Nat} {m v : Int} {t : Bool} (h47 : 0 ≤ S 0 47) (hc : c < (S 0 47).toNat) (h51 : S 51 c = -1) (hm : m ≠ -1) : carriedAt (delRow S c) m v t = if carriedAt S m v t = -1 then -1 else if carriedAt S m v t < (c : Int) then carriedAt S m v t else carriedAt S m v t - 1 := by
  have e39 : delRow S c 0 39 = S 0 39 := delRow_0 (by decide)
  have hN : (delRow S c 0 47).toNat = (S 0 47).toNat - 1 := by rw [delRow_47]; omega
  unfold carriedAt
  rw [hN]
  refine fnd_shf hc (fun x hx => ?_) (decide_eq_false (fun z => hm (z.1.symm.trans h51)))
  unfold endS fromS toS
  rw [delRow_row (by decide) (by decide) (by omega), delRow_row (f := 49) (by decide) (by decide) (by omega), delRow_row (f := 50) (by decide) (by decide) (by omega), e39]
theorem callW_del {c : Nat} (V : Inv S) (hc : c < (S 0 47).toNat) (s : Int) : callWith (delRow S c) s = if S 49 c = s ∨ S 50 c = s then -1 else if callWith S s = -1 then -1 else if callWith S s < (c : Int) then callWith S s else callWith S s - 1 := by
  have r47 := V.r47
  have hN : (delRow S c 0 47).toNat = (S 0 47).toNat - 1 := by rw [delRow_47]; omega
  have d1 := V.2.2.2.2.2.2.1
  have d2 := V.2.2.2.2.2.2.2.1
  by_cases h : S 49 c = s ∨ S 50 c = s
  · rw [if_pos h]
    refine callWith_of (fun x hx => ?_)
    rw [hN] at hx
    rw [delRow_row (by decide) (by decide) (by omega), delRow_row (by decide) (by decide) (by omega)]
    have hs : shf c x < (S 0 47).toNat := by unfold shf; split <;> omega
    have hne : shf c x ≠ c := by unfold shf; split <;> omega
    have a1 := d1 c (shf c x) hc hs
    have a2 := d1 (shf c x) c hs hc
    have a3 := d2 c (shf c x) hc hs (fun z => hne z.symm)
    rcases h with h | h
    · exact ⟨fun z => a3.1 (h.trans z.symm), fun z => a1 (h.trans z.symm)⟩
    · exact ⟨fun z => a2 (z.trans h.symm), fun z => a3.2 (h.trans z.symm)⟩
  · rw [if_neg h]
    unfold callWith
    rw [hN]
    refine fnd_shf hc (fun x hx => ?_) (decide_eq_false h)
    rw [delRow_row (by decide) (by decide) (by omega), delRow_row (by decide) (by decide) (by omega)]
/-- rows that don't count may differ -/
theorem Rep.rows (R : Rep Z G e b S S) (h0 : ∀ k, S' 0 k = S 0 k) (hr : ∀ f c : Nat, 48 ≤ f → f ≤ 54 → c < (S 0 47).toNat → S' f c = S f c) (ht : ∀ f c, 55 ≤ f → S' f c = S f c) : Rep Z G e b S' S' := by
  have ee : ∀ (c : Nat) (t : Bool), c < (S 0 47).toNat → endS S' c t = endS S c t := fun c t hc => by
    unfold endS fromS toS
    rw [hr 49 c (by decide) (by decide) hc, hr 50 c (by decide) (by decide) hc, h0]
  have ec : ∀ m v t, carriedAt S' m v t = carriedAt S m v t := fun m v t => by
    unfold carriedAt
    rw [h0]
    exact fnd_congr _ _ (fun x _ hx => by rw [hr 51 x (by decide) (by decide) (by omega), ee x t (by omega)])
  have ew : ∀ s, callWith S' s = callWith S s := fun s => callWith_congr (h0 47) (fun x hx => ⟨hr 49 x (by decide) (by decide) hx, hr 50 x (by decide) (by decide) hx⟩)
  have ea : ∀ c : Nat, c < (S 0 47).toNat → callA G b S' c = callA G b S c := fun c hc => by unfold callA; rw [hr 48 c (by decide) (by decide) hc]
  have lt : ∀ {p : Nat → Bool} {N : Nat}, fnd p N 0 ≠ -1 → (fnd p N 0).toNat < N := fun {p N} h => by
    have rg := fnd_rng (p := p) N 0
    have := fnd_some (p := p) N 0 (fnd p N 0).toNat (by omega)
    omega
  refine ⟨R.1, R.2.1.eq (fun k _ _ _ => h0 k) (funext fun x => ht 65 x (by decide)), ⟨fun c hc => ?_, fun k hk hn => ?_, fun s hs => ?_⟩, ?_, R.tail.eq ⟨fun k _ => h0 k, fun f c hf _ => ht f c hf⟩⟩
  · rw [h0] at hc
    rw [ea c hc, hr 48 c (by decide) (by decide) hc]
    obtain ⟨y1, y2⟩ := R.2.2.1.1 c hc
    refine ⟨y1, ?_⟩
    unfold CallO at y2 ⊢
    rw [hr 48 c (by decide) (by decide) hc, hr 49 c (by decide) (by decide) hc, hr 50 c (by decide) (by decide) hc, hr 51 c (by decide) (by decide) hc, hr 52 c (by decide) (by decide) hc, hr 53 c (by decide) (by decide) hc, hr 54 c (by decide) (by decide) hc]
    exact y2
  · exact R.2.2.1.2.1 k hk (fun c hc => by have := hn c (by rw [h0]; exact hc); rw [hr 48 c (by decide) (by decide) hc] at this; exact this)
  · rw [h0, h0] at hs
    rw [ew, R.2.2.1.2.2 s hs]
    by_cases hw : callWith S (s : Int) = -1
    · rw [if_pos hw, if_pos hw]
    · rw [if_neg hw, if_neg hw, ea (callWith S (s : Int)).toNat (lt hw)]
  · obtain ⟨n, f, M, hn, hf⟩ := R.2.2.2.1
    refine ⟨n, f, M, ?_, fun m i t h1 h2 => ?_⟩
    · rw [hn, h0]
      congr 1
      exact sumI_congr _ _ (fun x _ hx => by rw [hr 51 x (by decide) (by decide) (by omega)])
    · rw [ec, hf m i t h1 h2]
      by_cases hw : carriedAt S (m : Int) (i : Int) t = -1
      · rw [if_pos hw, if_pos hw]
      · rw [if_neg hw, if_neg hw, ea (carriedAt S (m : Int) (i : Int) t).toNat (lt hw)]
/-- a call that isn't laid goes -/
theorem xr_del {c : Nat} (V : Inv S) (R : Rep Z G e b S S) (hc : c < (S 0 47).toNat) (h51 : S 51 c = -1) :
    Rep Z (setQ (setQ (setQ G (b + 1) (S 48 c).toNat none) (b + 10) (S 49 c).toNat none) (b + 10) (S 50 c).toNat none) e b (delRow S c) (delRow S c) ∧
      Md (fun x => x = b + 1 ∨ x = b + 10) G (setQ (setQ (setQ G (b + 1) (S 48 c).toNat none) (b + 10) (S 49 c).toNat none) (b + 10) (S 50 c).toNat none) ∧
      ∀ x : Nat, x < (S 0 47).toNat - 1 → callA (setQ (setQ (setQ G (b + 1) (S 48 c).toNat none) (b + 10) (S 49 c).toNat none) (b + 10) (S 50 c).toNat none) b (delRow S c) x = callA G b S (shf c x) := by
  have sh := R.1
  have r47 := V.r47
  have l1 := (sh.part 1 (by decide) (by decide)).2
  have l10 := (sh.part 10 (by decide) (by decide)).2
  have le := sh.2.2.1
  have md : Md (fun x => x = b + 1 ∨ x = b + 10) G (setQ (setQ (setQ G (b + 1) (S 48 c).toNat none) (b + 10) (S 49 c).toNat none) (b + 10) (S 50 c).toNat none) :=
    ((Md.rf.setQ l1 (fun _ => Or.inl rfl)).setQ l10 (fun _ => Or.inr rfl)).setQ l10 (fun _ => Or.inr rfl)
  have qI : ∀ g x, fI (setQ (setQ (setQ G (b + 1) (S 48 c).toNat none) (b + 10) (S 49 c).toNat none) (b + 10) (S 50 c).toNat none) g x = fI G g x := fun _ _ => rfl
  have qR : ∀ g x, fR (setQ (setQ (setQ G (b + 1) (S 48 c).toNat none) (b + 10) (S 49 c).toNat none) (b + 10) (S 50 c).toNat none) g x = fR G g x := fun _ _ => rfl
  have qA : ∀ x i, aI (setQ (setQ (setQ G (b + 1) (S 48 c).toNat none) (b + 10) (S 49 c).toNat none) (b + 10) (S 50 c).toNat none) x i = aI G x i := fun _ _ => rfl
  have qL : ∀ x, gL (setQ (setQ (setQ G (b + 1) (S 48 c).toNat none) (b + 10) (S 49 c).toNat none) (b + 10) (S 50 c).toNat none) x = gL G x := fun _ => rfl
  have w1 : ∀ j, aR (setQ (setQ (setQ G (b + 1) (S 48 c).toNat none) (b + 10) (S 49 c).toNat none) (b + 10) (S 50 c).toNat none) (b + 1) j = if j = (S 48 c).toNat then none else aR G (b + 1) j := fun j => by
    refine (hQ_ne (G := setQ (setQ G (b + 1) (S 48 c).toNat none) (b + 10) (S 49 c).toNat none) (Or.inl (by omega))).trans ((hQ_ne (G := setQ G (b + 1) (S 48 c).toNat none) (Or.inl (by omega))).trans ?_)
    split
    · rename_i h; rw [h]; exact hQ_at
    · rename_i h; exact hQ_ne (Or.inr h)
  have w10 : ∀ j, aR (setQ (setQ (setQ G (b + 1) (S 48 c).toNat none) (b + 10) (S 49 c).toNat none) (b + 10) (S 50 c).toNat none) (b + 10) j = if j = (S 49 c).toNat ∨ j = (S 50 c).toNat then none else aR G (b + 10) j := fun j => by
    by_cases ht : j = (S 50 c).toNat
    · rw [if_pos (Or.inr ht), ht]; exact hQ_at (G := setQ (setQ G (b + 1) (S 48 c).toNat none) (b + 10) (S 49 c).toNat none)
    · refine (hQ_ne (G := setQ (setQ G (b + 1) (S 48 c).toNat none) (b + 10) (S 49 c).toNat none) (Or.inr ht)).trans ?_
      by_cases hr : j = (S 49 c).toNat
      · rw [if_pos (Or.inl hr), hr]; exact hQ_at (G := setQ G (b + 1) (S 48 c).toNat none)
      · rw [if_neg (fun z => z.elim hr ht)]
        exact (hQ_ne (G := setQ G (b + 1) (S 48 c).toNat none) (Or.inr hr)).trans (hQ_ne (Or.inl (by omega)))
  generalize setQ (setQ (setQ G (b + 1) (S 48 c).toNat none) (b + 10) (S 49 c).toNat none) (b + 10) (S 50 c).toNat none = G' at *
  have hN : (delRow S c 0 47).toNat = (S 0 47).toNat - 1 := by rw [delRow_47]; omega
  have e0 : ∀ {k : Nat}, k ≠ 47 → delRow S c 0 k = S 0 k := fun h => delRow_0 h
  have row : ∀ f x : Nat, 48 ≤ f → f ≤ 54 → x < (S 0 47).toNat - 1 → delRow S c f x = S f (shf c x) := fun f x h1 h2 hx => delRow_row h1 h2 (by omega)
  have shN : ∀ x, x < (S 0 47).toNat - 1 → shf c x < (S 0 47).toNat ∧ shf c x ≠ c := fun x hx => by unfold shf; split <;> omega
  have num : ∀ x : Nat, x < (S 0 47).toNat → x ≠ c → (S 48 x).toNat ≠ (S 48 c).toNat := fun x hx hne => by
    have h1 := (V.row hx).1
    have h2 := (V.row hc).1
    rcases Nat.lt_trichotomy x c with h | h | h
    · have := V.2.2.2.1 x c h hc; omega
    · exact absurd h hne
    · have := V.2.2.2.1 c x h hx; omega
  have cA : ∀ x : Nat, x < (S 0 47).toNat - 1 → callA G' b (delRow S c) x = callA G b S (shf c x) := fun x hx => by
    obtain ⟨s1, s2⟩ := shN x hx
    unfold callA
    rw [w1, row 48 x (by decide) (by decide) hx, if_neg (num _ s1 s2)]
  have back : ∀ x : Nat, x < (S 0 47).toNat → x ≠ c → (if (x : Int) < (c : Int) then (x : Int) else (x : Int) - 1).toNat < (S 0 47).toNat - 1 ∧ shf c (if (x : Int) < (c : Int) then (x : Int) else (x : Int) - 1).toNat = x := fun x hx hne => by
    unfold shf
    by_cases h : x < c
    · rw [if_pos (show (x : Int) < (c : Int) by omega), Int.toNat_natCast, if_pos h]
      exact ⟨by omega, rfl⟩
    · rw [if_neg (show ¬ (x : Int) < (c : Int) by omega), if_neg (by omega)]
      omega
  have fp : FP G (fun x => x = b + 1 ∨ x = b + 10) := sh.fp.mono (fun x hx h => by
    rcases h with h | h
    · rw [h]; exact (sh.part 1 (by decide) (by decide)).1
    · rw [h]; exact (sh.part 10 (by decide) (by decide)).1)
  have own : ∀ j, j = 2 ∨ 4 ≤ j → j ≤ 7 → ∀ x, x < gn G → Ow G (b + j) x → ¬ (x = b + 1 ∨ x = b + 10) := fun j j1 j2 x hx ho z => by
    rcases ho with ho | ho
    · omega
    · obtain ⟨o1, o2, -⟩ := sh.own (j := j) (by omega) ho
      rcases z with z | z
      · exact o2 1 (by decide) (by decide) z
      · exact o2 10 (by decide) (by decide) z
  refine ⟨⟨sh.md1 md (fun f => qR f e), ?_, ⟨fun x hx => ?_, fun j hj hno => ?_, fun s hs => ?_⟩, ?_, ?_⟩, md, cA⟩
  · obtain ⟨c1, c2, c3, c4, c5, c6, c7, c8, c9, c10⟩ := R.2.1
    unfold ScE
    rw [e0 (k := 38) (by decide), e0 (k := 39) (by decide), e0 (k := 40) (by decide), e0 (k := 42) (by decide), e0 (k := 43) (by decide), e0 (k := 44) (by decide), e0 (k := 45) (by decide), e0 (k := 46) (by decide), qL]
    refine ⟨(qI 9 e).trans c1, (qI 10 e).trans c2, (qI 11 e).trans c3, (qI 21 e).trans c4, (qI 22 e).trans c5, (qI 23 e).trans c6, (qI 24 e).trans c7, (qI 25 e).trans c8, c9, fun k hk => ?_⟩
    rw [qA, delRow_off (by decide)]
    exact c10 k hk
  · rw [hN] at hx
    obtain ⟨s1, s2⟩ := shN x hx
    rw [cA x hx, w1, row 48 x (by decide) (by decide) hx, if_neg (num _ s1 s2)]
    obtain ⟨y1, y2⟩ := R.2.2.1.1 _ s1
    refine ⟨y1, ?_⟩
    have y3 := y2.md md (fun z => by
      rcases z with z | z
      · exact sh.k9 (j := 1) (by decide) (z ▸ y2.1)
      · exact sh.k9 (j := 10) (by decide) (z ▸ y2.1))
    unfold CallO at y3 ⊢
    rw [row 48 x (by decide) (by decide) hx, row 49 x (by decide) (by decide) hx, row 50 x (by decide) (by decide) hx, row 51 x (by decide) (by decide) hx, row 52 x (by decide) (by decide) hx, row 53 x (by decide) (by decide) hx, row 54 x (by decide) (by decide) hx]
    exact y3
  · rw [w1]
    split
    · rfl
    · rename_i hjc
      refine R.2.2.1.2.1 j hj (fun x hx => ?_)
      by_cases hxc : x = c
      · rw [hxc]; intro z; rw [z] at hjc; exact hjc (Int.toNat_natCast _).symm
      · obtain ⟨b1, b2⟩ := back x hx hxc
        have := hno _ (by rw [hN]; exact b1)
        rw [row 48 _ (by decide) (by decide) b1, b2] at this
        exact this
  · rw [e0 (by decide), e0 (by decide)] at hs
    rw [w10, callW_del V hc]
    have rc := V.row hc
    by_cases h : S 49 c = (s : Int) ∨ S 50 c = (s : Int)
    · rw [if_pos h, if_pos (by omega), if_pos rfl]
    · rw [if_neg h, if_neg (by have h1 := rc.2.1; have h2 := rc.2.2.1; omega), R.2.2.1.2.2 s hs]
      by_cases hw : callWith S (s : Int) = -1
      · rw [if_pos hw, if_pos hw, if_pos rfl]
      · have rg := fnd_rng (p := fun c => decide (S 49 c = (s : Int) ∨ S 50 c = (s : Int))) (S 0 47).toNat 0
        obtain ⟨x, hx⟩ : ∃ x : Nat, callWith S (s : Int) = (x : Int) := ⟨(callWith S (s : Int)).toNat, by unfold callWith at hw ⊢; omega⟩
        have cs := callWith_some hx
        have hxc : x ≠ c := fun z => by rw [z] at cs; exact h cs.2
        obtain ⟨b1, b2⟩ := back x cs.1 hxc
        have e1 : (if (x : Int) = -1 then (-1 : Int) else if (x : Int) < (c : Int) then (x : Int) else (x : Int) - 1) = (if (x : Int) < (c : Int) then (x : Int) else (x : Int) - 1) := if_neg (by omega)
        have y0 : (if (x : Int) < (c : Int) then (x : Int) else (x : Int) - 1) ≠ -1 := by split <;> omega
        rw [hx, e1]
        generalize (if (x : Int) < (c : Int) then (x : Int) else (x : Int) - 1) = y at *
        rw [if_neg (show ¬ (x : Int) = -1 by omega), if_neg y0, cA _ b1, b2, Int.toNat_natCast]
  · obtain ⟨n, f, M, hn, hf⟩ := R.2.2.2.1
    refine ⟨n, f, M.md md (own 2 (by decide) (by decide)) (fun k' c' hk' => hk'.md md fp), ?_, fun m i t h1 h2 => ?_⟩
    · rw [hn, hN]
      congr 1
      have := sum_shf (p := fun x => b2i (decide (S 51 x ≠ -1))) (p' := fun x => b2i (decide (delRow S c 51 x ≠ -1))) (c := c) ((S 0 47).toNat - 1 - c) (fun x hx => by rw [row 51 x (by decide) (by decide) (by omega)]) (by rw [h51]; rfl)
      rw [show c + ((S 0 47).toNat - 1 - c) + 1 = (S 0 47).toNat by omega, show c + ((S 0 47).toNat - 1 - c) = (S 0 47).toNat - 1 by omega] at this
      exact this.symm
    · rw [carr_del r47.1 hc h51 (by omega), hf m i t h1 h2]
      by_cases hw : carriedAt S (m : Int) (i : Int) t = -1
      · rw [if_pos hw, if_pos hw, if_pos rfl]
      · have rg := fnd_rng (p := fun c => decide (S 51 c = (m : Int) ∧ endS S c t = (i : Int))) (S 0 47).toNat 0
        obtain ⟨x, hx⟩ : ∃ x : Nat, carriedAt S (m : Int) (i : Int) t = (x : Int) := ⟨(carriedAt S (m : Int) (i : Int) t).toNat, by unfold carriedAt at hw ⊢; omega⟩
        have cs := carriedAt_some hx
        have hxc : x ≠ c := fun z => by rw [z, h51] at cs; omega
        obtain ⟨b1, b2⟩ := back x cs.1 hxc
        have e1 : (if (x : Int) = -1 then (-1 : Int) else if (x : Int) < (c : Int) then (x : Int) else (x : Int) - 1) = (if (x : Int) < (c : Int) then (x : Int) else (x : Int) - 1) := if_neg (by omega)
        have y0 : (if (x : Int) < (c : Int) then (x : Int) else (x : Int) - 1) ≠ -1 := by split <;> omega
        rw [hx, e1]
        generalize (if (x : Int) < (c : Int) then (x : Int) else (x : Int) - 1) = y at *
        rw [if_neg (show ¬ (x : Int) = -1 by omega), if_neg y0, cA _ b1, b2, Int.toNat_natCast]
  · exact (R.tail.md1 md (by omega) (fun j j1 j2 => own j (Or.inr j1) j2) fp).eq ⟨fun k hk => e0 (by omega), fun f x hf _ => delRow_off hf⟩
end END1
