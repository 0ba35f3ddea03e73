/-! THE EXCHANGE, 12: a new call -/
section BEGIN
variable {Z : ZT} {d : Nat} {G : GH} {Q : TR → GH → Prop} {e b : Nat} {S S' T T' : St}
theorem hQ_two {a1 i1 a2 i2 : Nat} {r1 r2 : Option Nat} {c j : Nat} (h1 : c ≠ a1 ∨ j ≠ i1) (h2 : c ≠ a2 ∨ j ≠ i2) : aR (setQ (setQ G a1 i1 r1) a2 i2 r2) c j = aR G c j := (hQ_ne h2).trans (hQ_ne h1)
/-- who is in the new call -/
theorem callWith_add {fr to last m : Int} (V : Inv S) (ifr : callWith S fr = -1) (ito : callWith S to = -1) (s : Int) : callWith (addRow S fr to last m) s = if s = fr ∨ s = to then S 0 47 else callWith S s := by
  have r47 := V.r47
  obtain ⟨a48, a49, a50, -⟩ := addRow_at (S := S) (fr := fr) (to := to) (last := last) (m := m)
  have hn : (addRow S fr to last m 0 47).toNat = (S 0 47).toNat + 1 := by rw [addRow_47]; omega
  have old : ∀ f c : Nat, f ≠ 0 → c < (S 0 47).toNat → addRow S fr to last m f c = S f c := fun f c h0 hc => addRow_off h0 (Or.inl (by omega))
  split
  · rename_i h
    unfold callWith
    rw [hn]
    have := fnd_of_some (p := fun c => decide (addRow S fr to last m 49 c = s ∨ addRow S fr to last m 50 c = s)) ((S 0 47).toNat + 1) 0 (S 0 47).toNat (Nat.zero_le _) (by omega) (decide_eq_true (by rw [a49, a50]; exact h.imp Eq.symm Eq.symm)) (fun y _ hy => decide_eq_false (fun z => by
      rw [old 49 y (by decide) hy, old 50 y (by decide) hy] at z
      rcases h with h | h
      · rw [h] at z; have := callWith_none ifr hy; omega
      · rw [h] at z; have := callWith_none ito hy; omega))
    rw [this]
    omega
  · rename_i h
    by_cases hs : callWith S s = -1
    · rw [hs]
      refine callWith_of (fun x hx => ?_)
      rw [hn] at hx
      by_cases hx' : x = (S 0 47).toNat
      · rw [hx', a49, a50]
        exact ⟨fun z => h (Or.inl z.symm), fun z => h (Or.inr z.symm)⟩
      · rw [old 49 x (by decide) (by omega), old 50 x (by decide) (by omega)]
        exact callWith_none hs (by omega)
    · have rg := fnd_rng (p := fun c => decide (S 49 c = s ∨ S 50 c = s)) (S 0 47).toNat 0
      obtain ⟨x, hx⟩ : ∃ x : Nat, callWith S s = (x : Int) := ⟨(callWith S s).toNat, by unfold callWith at hs ⊢; omega⟩
      have fs := fnd_some _ _ _ (show fnd (fun c => decide (S 49 c = s ∨ S 50 c = s)) (S 0 47).toNat 0 = (x : Int) from hx)
      rw [hx]
      unfold callWith
      rw [hn]
      refine fnd_of_some _ _ x (Nat.zero_le _) (by omega) ?_ (fun y h1 h2 => ?_)
      · rw [old 49 x (by decide) (by omega), old 50 x (by decide) (by omega)]; exact fs.2.2.1
      · rw [old 49 y (by decide) (by omega), old 50 y (by decide) (by omega)]; exact fs.2.2.2 y h1 h2
/-- the rows with the new one, not laid yet -/
theorem carr_T0 {fr to last m m' i : Int} {t : Bool} (V : Inv S) (hm : m' ≠ -1) : carriedAt (up2 (addRow S fr to last m) 51 (S 0 47).toNat (-1)) m' i t = carriedAt S m' i t := by
  have r47 := V.r47
  have hn : (up2 (addRow S fr to last m) 51 (S 0 47).toNat (-1) 0 47).toNat = (S 0 47).toNat + 1 := by rw [up2_ne (Or.inl (by decide)), addRow_47]; omega
  have old : ∀ f c : Nat, f ≠ 0 → c < (S 0 47).toNat → up2 (addRow S fr to last m) 51 (S 0 47).toNat (-1) f c = S f c := fun f c h0 hc => by
    rw [up2_ne (Or.inr (by omega))]
    exact addRow_off h0 (Or.inl (by omega))
  have e39 : up2 (addRow S fr to last m) 51 (S 0 47).toNat (-1) 0 39 = S 0 39 := (up2_ne (Or.inl (by decide))).trans (addRow_0 (by decide) (by decide) (by decide))
  have ee : ∀ c : Nat, c < (S 0 47).toNat → endS (up2 (addRow S fr to last m) 51 (S 0 47).toNat (-1)) c t = endS S c t := fun c hc => by
    unfold endS fromS toS
    rw [old 49 c (by decide) hc, old 50 c (by decide) hc, e39]
  by_cases hs : carriedAt S m' i t = -1
  · rw [hs]
    refine carriedAt_of (fun x hx h1 h2 => ?_)
    rw [hn] at hx
    by_cases hx' : x = (S 0 47).toNat
    · rw [hx', up2_at] at h1; exact hm h1.symm
    · rw [old 51 x (by decide) (by omega)] at h1
      rw [ee x (by omega)] at h2
      exact carriedAt_none hs (by omega) h1 h2
  · have rg := fnd_rng (p := fun c => decide (S 51 c = m' ∧ endS S c t = i)) (S 0 47).toNat 0
    obtain ⟨x, hx⟩ : ∃ x : Nat, carriedAt S m' i t = (x : Int) := ⟨(carriedAt S m' i t).toNat, by unfold carriedAt at hs ⊢; omega⟩
    have fs := fnd_some _ _ _ (show fnd (fun c => decide (S 51 c = m' ∧ endS S c t = i)) (S 0 47).toNat 0 = (x : Int) from hx)
    rw [hx]
    unfold carriedAt
    rw [hn]
    refine fnd_of_some _ _ x (Nat.zero_le _) (by omega) ?_ (fun y h1 h2 => ?_)
    · rw [old 51 x (by decide) (by omega), ee x (by omega)]; exact fs.2.2.1
    · rw [old 51 y (by decide) (by omega), ee y (by omega)]; exact fs.2.2.2 y h1 h2
/-- the new call is kept -/
theorem xr_add {a n : Nat} {f : Int → Option Nat} {fr to : Nat} {last m : Int} (V : Inv S) (sh : ShE G e b) (sc : ScE G e b S) (cl : CallsE G e b S) (tl : TailE Z G b S) (M : MapV KS G (b + 2) n f) (hn : (n : Int) = 2 * sumI (fun c => b2i (decide (addRow S (fr : Int) (to : Int) last m 51 c ≠ -1))) ((S 0 47).toNat + 1) 0)
    (hf : ∀ (m' i : Nat) (t : Bool), m' ≤ 8 → i ≤ 5 → f (spc m' i t.toNat) = if carriedAt (addRow S (fr : Int) (to : Int) last m) (m' : Int) (i : Int) t = -1 then none else some ((fun x => if x = (S 0 47).toNat then a else callA G b S x) (carriedAt (addRow S (fr : Int) (to : Int) last m) (m' : Int) (i : Int) t).toNat))
    (ca : gK G a = 9 ∧ gP G a = e ∧ a < gn G ∧ fI G 105 a = S 0 46 ∧ fI G 106 a = (fr : Int) ∧ fI G 107 a = (to : Int) ∧ fI G 108 a = S 0 44 ∧ fI G 109 a = last ∧ fI G 110 a = m ∧ fI G 111 a = 0) (hb : S 0 46 < 200) (ifr : callWith S (fr : Int) = -1) (ito : callWith S (to : Int) = -1) :
    Rep Z (setI (setQ (setQ (setQ (setI G 25 e m) (b + 1) (S 0 46).toNat (some a)) (b + 10) fr (some a)) (b + 10) to (some a)) 21 e (S 0 46 + 1)) e b (addRow S (fr : Int) (to : Int) last m) (addRow S (fr : Int) (to : Int) last m) ∧
      Md (fun x => x = e ∨ x = b + 1 ∨ x = b + 10) G (setI (setQ (setQ (setQ (setI G 25 e m) (b + 1) (S 0 46).toNat (some a)) (b + 10) fr (some a)) (b + 10) to (some a)) 21 e (S 0 46 + 1)) := by
  have r46 := V.r46
  have r47 := V.r47
  have l1 := (sh.part 1 (by decide) (by decide)).2
  have l10 := (sh.part 10 (by decide) (by decide)).2
  have le := sh.2.2.1
  have md : Md (fun x => x = e ∨ x = b + 1 ∨ x = b + 10) G (setI (setQ (setQ (setQ (setI G 25 e m) (b + 1) (S 0 46).toNat (some a)) (b + 10) fr (some a)) (b + 10) to (some a)) 21 e (S 0 46 + 1)) :=
    ((((Md.rf.setI sh.2.1 (fun _ => Or.inl rfl)).setQ l1 (fun _ => Or.inr (Or.inl rfl))).setQ l10 (fun _ => Or.inr (Or.inr rfl))).setQ l10 (fun _ => Or.inr (Or.inr rfl))).setI sh.2.1 (fun _ => Or.inl rfl)
  have qR : ∀ f x, fR (setI (setQ (setQ (setQ (setI G 25 e m) (b + 1) (S 0 46).toNat (some a)) (b + 10) fr (some a)) (b + 10) to (some a)) 21 e (S 0 46 + 1)) f x = fR G f x := fun _ _ => rfl
  have qA : ∀ x i, aI (setI (setQ (setQ (setQ (setI G 25 e m) (b + 1) (S 0 46).toNat (some a)) (b + 10) fr (some a)) (b + 10) to (some a)) 21 e (S 0 46 + 1)) x i = aI G x i := fun _ _ => rfl
  have qL : ∀ x, gL (setI (setQ (setQ (setQ (setI G 25 e m) (b + 1) (S 0 46).toNat (some a)) (b + 10) fr (some a)) (b + 10) to (some a)) 21 e (S 0 46 + 1)) x = gL G x := fun _ => rfl
  have qI : ∀ g, g ≠ 21 → g ≠ 25 → ∀ x, fI (setI (setQ (setQ (setQ (setI G 25 e m) (b + 1) (S 0 46).toNat (some a)) (b + 10) fr (some a)) (b + 10) to (some a)) 21 e (S 0 46 + 1)) g x = fI G g x := fun g h1 h2 x => (hI_ne (Or.inl h1)).trans (hI_ne (G := G) (Or.inl h2))
  have q21 : fI (setI (setQ (setQ (setQ (setI G 25 e m) (b + 1) (S 0 46).toNat (some a)) (b + 10) fr (some a)) (b + 10) to (some a)) 21 e (S 0 46 + 1)) 21 e = S 0 46 + 1 := hI_at
  have q25 : fI (setI (setQ (setQ (setQ (setI G 25 e m) (b + 1) (S 0 46).toNat (some a)) (b + 10) fr (some a)) (b + 10) to (some a)) 21 e (S 0 46 + 1)) 25 e = m := (hI_ne (Or.inl (by decide))).trans (hI_at (G := G))
  have w1 : ∀ j, aR (setI (setQ (setQ (setQ (setI G 25 e m) (b + 1) (S 0 46).toNat (some a)) (b + 10) fr (some a)) (b + 10) to (some a)) 21 e (S 0 46 + 1)) (b + 1) j = if j = (S 0 46).toNat then some a else aR G (b + 1) j := fun j => by
    refine (hQ_ne (G := setQ (setQ (setI G 25 e m) (b + 1) (S 0 46).toNat (some a)) (b + 10) fr (some a)) (Or.inl (by omega))).trans ((hQ_ne (G := setQ (setI G 25 e m) (b + 1) (S 0 46).toNat (some a)) (Or.inl (by omega))).trans ?_)
    split
    · rename_i h; rw [h]; exact hQ_at
    · rename_i h; exact hQ_ne (G := setI G 25 e m) (Or.inr h)
  have w10 : ∀ j, aR (setI (setQ (setQ (setQ (setI G 25 e m) (b + 1) (S 0 46).toNat (some a)) (b + 10) fr (some a)) (b + 10) to (some a)) 21 e (S 0 46 + 1)) (b + 10) j = if j = fr ∨ j = to then some a else aR G (b + 10) j := fun j => by
    by_cases ht : j = to
    · rw [if_pos (Or.inr ht), ht]; exact hQ_at (G := setQ (setQ (setI G 25 e m) (b + 1) (S 0 46).toNat (some a)) (b + 10) fr (some a))
    · refine (hQ_ne (G := setQ (setQ (setI G 25 e m) (b + 1) (S 0 46).toNat (some a)) (b + 10) fr (some a)) (Or.inr ht)).trans ?_
      by_cases hr : j = fr
      · rw [if_pos (Or.inl hr), hr]; exact hQ_at (G := setQ (setI G 25 e m) (b + 1) (S 0 46).toNat (some a))
      · rw [if_neg (fun z => z.elim hr ht)]
        exact (hQ_ne (G := setQ (setI G 25 e m) (b + 1) (S 0 46).toNat (some a)) (Or.inr hr)).trans (hQ_ne (G := setI G 25 e m) (Or.inl (by omega)))
  generalize setI (setQ (setQ (setQ (setI G 25 e m) (b + 1) (S 0 46).toNat (some a)) (b + 10) fr (some a)) (b + 10) to (some a)) 21 e (S 0 46 + 1) = G' at *
  obtain ⟨a48, a49, a50, a51, a52, a53, a54⟩ := addRow_at (S := S) (fr := (fr : Int)) (to := (to : Int)) (last := last) (m := m)
  have hnn : (addRow S (fr : Int) (to : Int) last m 0 47).toNat = (S 0 47).toNat + 1 := by rw [addRow_47]; omega
  have old : ∀ f c : Nat, f ≠ 0 → c < (S 0 47).toNat → addRow S (fr : Int) (to : Int) last m f c = S f c := fun f c h0 hc => addRow_off h0 (Or.inl (by omega))
  have e0 : ∀ {k : Nat}, k ≠ 45 → k ≠ 46 → k ≠ 47 → addRow S (fr : Int) (to : Int) last m 0 k = S 0 k := fun h1 h2 h3 => addRow_0 h1 h2 h3
  have num : ∀ c : Nat, c < (S 0 47).toNat → (S 48 c).toNat ≠ (S 0 46).toNat := fun c hc => by
    have h1 := V.2.2.2.2.1 c hc
    have h2 := (V.row hc).1
    omega
  have ncal : ∀ c : Nat, gK G c = 9 → ¬ (c = e ∨ c = b + 1 ∨ c = b + 10) := fun c hc z => by
    rcases z with z | z | z
    · rw [z, sh.1] at hc; cases hc
    · exact sh.k9 (j := 1) (by decide) (z ▸ hc)
    · exact sh.k9 (j := 10) (by decide) (z ▸ hc)
  have cA : ∀ c : Nat, c < (S 0 47).toNat + 1 → callA G' b (addRow S (fr : Int) (to : Int) last m) c = if c = (S 0 47).toNat then a else callA G b S c := fun c hc => by
    unfold callA
    rw [w1]
    by_cases hN : c = (S 0 47).toNat
    · rw [if_pos hN, hN, a48, if_pos rfl]; rfl
    · rw [if_neg hN, old 48 c (by decide) (by omega), if_neg (num c (by omega))]
  have fp : FP G (fun x => x = e ∨ x = b + 1 ∨ x = b + 10) := sh.fp.mono (fun x hx h => by
    rcases h with h | h | h
    · exact Or.inl h
    · rw [h]; exact (sh.part 1 (by decide) (by decide)).1
    · rw [h]; exact (sh.part 10 (by decide) (by decide)).1)
  have own : ∀ j, j = 2 ∨ 4 ≤ j → j ≤ 7 → ∀ c, c < gn G → Ow G (b + j) c → ¬ (c = e ∨ c = b + 1 ∨ c = b + 10) := fun j j1 j2 c hc ho z => by
    rcases ho with ho | ho
    · omega
    · obtain ⟨o1, o2, -⟩ := sh.own (j := j) (by omega) ho
      rcases z with z | z | z
      · exact o1 z
      · exact o2 1 (by decide) (by decide) z
      · exact o2 10 (by decide) (by decide) z
  refine ⟨⟨sh.md1 md (fun f => qR f e), ?_, ⟨fun c hc => ?_, fun j hj hno => ?_, fun s hs => ?_⟩, ⟨n, f, ?_, ?_, fun m' i t h1 h2 => ?_⟩, ?_⟩, md⟩
  · obtain ⟨c1, c2, c3, c4, c5, c6, c7, c8, c9, c10⟩ := sc
    unfold ScE
    rw [e0 (k := 38) (by decide) (by decide) (by decide), e0 (k := 39) (by decide) (by decide) (by decide), e0 (k := 40) (by decide) (by decide) (by decide), e0 (k := 42) (by decide) (by decide) (by decide), e0 (k := 43) (by decide) (by decide) (by decide), e0 (k := 44) (by decide) (by decide) (by decide), addRow_45, addRow_46, qL, qI 9 (by decide) (by decide), qI 10 (by decide) (by decide), qI 11 (by decide) (by decide), qI 22 (by decide) (by decide), qI 23 (by decide) (by decide), qI 24 (by decide) (by decide), q21, q25]
    refine ⟨c1, c2, c3, rfl, c5, c6, c7, rfl, c9, fun k hk => ?_⟩
    rw [qA, addRow_off (by decide) (Or.inr (Or.inr (by decide)))]
    exact c10 k hk
  · rw [hnn] at hc
    rw [cA c hc, w1]
    by_cases hN : c = (S 0 47).toNat
    · subst hN
      obtain ⟨x1, x2, x3, x4, x5, x6, x7, x8, x9, x10⟩ := ca
      rw [if_pos rfl, a48, if_pos rfl]
      refine ⟨rfl, (md.k x3).trans x1, (md.p x3).trans x2, Nat.lt_of_lt_of_le x3 md.1, ?_, ?_, ?_, ?_, ?_, ?_, ?_⟩
      · rw [qI 105 (by decide) (by decide), a48]; exact x4
      · rw [qI 106 (by decide) (by decide), a49]; exact x5
      · rw [qI 107 (by decide) (by decide), a50]; exact x6
      · rw [qI 108 (by decide) (by decide), a52]; exact x7
      · rw [qI 109 (by decide) (by decide), a53]; exact x8
      · rw [qI 110 (by decide) (by decide), a51]; exact x9
      · rw [qI 111 (by decide) (by decide), a54]; exact x10
    · have hcN : c < (S 0 47).toNat := by omega
      rw [if_neg hN, old 48 c (by decide) hcN, if_neg (num c hcN)]
      obtain ⟨y1, y2⟩ := cl.1 c hcN
      refine ⟨y1, ?_⟩
      have y3 := y2.md md (ncal _ y2.1)
      unfold CallO at y3 ⊢
      rw [old 48 c (by decide) hcN, old 49 c (by decide) hcN, old 50 c (by decide) hcN, old 51 c (by decide) hcN, old 52 c (by decide) hcN, old 53 c (by decide) hcN, old 54 c (by decide) hcN]
      exact y3
  · rw [w1, if_neg (fun z => by
      have := hno (S 0 47).toNat (by omega)
      rw [a48] at this
      omega)]
    exact cl.2.1 j hj (fun c hc => by have := hno c (by omega); rw [old 48 c (by decide) hc] at this; exact this)
  · rw [e0 (k := 38) (by decide) (by decide) (by decide), e0 (k := 39) (by decide) (by decide) (by decide)] at hs
    rw [w10, callWith_add V ifr ito]
    by_cases h : s = fr ∨ s = to
    · rw [if_pos h, if_pos (show ((s : Int) = (fr : Int) ∨ (s : Int) = (to : Int)) by omega), if_neg (by omega), cA _ (by omega), if_pos rfl]
    · rw [if_neg h, if_neg (show ¬ ((s : Int) = (fr : Int) ∨ (s : Int) = (to : Int)) by omega), cl.2.2 s hs]
      by_cases hw : callWith S (s : Int) = -1
      · rw [if_pos hw, if_pos hw]
      · have rg := fnd_rng (p := fun c => decide (S 49 c = (s : Int) ∨ S 50 c = (s : Int))) (S 0 47).toNat 0
        have hx := callWith_some (S := S) (s := (s : Int)) (x := (callWith S (s : Int)).toNat) (by unfold callWith at hw ⊢; omega)
        rw [if_neg hw, if_neg hw, cA _ (by omega), if_neg (by omega)]
  · exact M.md md (own 2 (by decide) (by decide)) (fun k' c' hk' => hk'.md md fp)
  · rw [hnn]; exact hn
  · rw [hf m' i t h1 h2]
    by_cases hw : carriedAt (addRow S (fr : Int) (to : Int) last m) (m' : Int) (i : Int) t = -1
    · rw [if_pos hw, if_pos hw]
    · have rg := fnd_rng (p := fun c => decide (addRow S (fr : Int) (to : Int) last m 51 c = (m' : Int) ∧ endS (addRow S (fr : Int) (to : Int) last m) c t = (i : Int))) (addRow S (fr : Int) (to : Int) last m 0 47).toNat 0
      have hx := (carriedAt_some (S := addRow S (fr : Int) (to : Int) last m) (m := (m' : Int)) (v := (i : Int)) (b := t) (x := (carriedAt (addRow S (fr : Int) (to : Int) last m) (m' : Int) (i : Int) t).toNat) (by unfold carriedAt at hw ⊢; omega)).1
      rw [hnn] at hx
      rw [if_neg hw, if_neg hw, cA _ hx]
  · exact (tl.md1 md (by omega) (fun j j1 j2 => own j (Or.inr j1) j2) fp).eq ⟨fun k hk => e0 (by omega) (by omega) (by omega), fun f x hf _ => addRow_off (by omega) (Or.inr (Or.inr (by omega)))⟩
end BEGIN
