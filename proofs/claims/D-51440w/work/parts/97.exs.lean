/-! THE EXCHANGE, 28: what doesn't count may differ; a call that is copied -/
section SAME
variable {Z : ZT} {d : Nat} {G : GH} {Q : TR → GH → Prop} {e b : Nat} {S S' T T' : St}
/-- the same exchange -/
def SameE (S S' : St) : Prop :=
  (∀ k, 38 ≤ k → k ≤ 47 → k ≠ 41 → S' 0 k = S 0 k) ∧ (∀ k : Nat, (k : Int) < S 0 40 → isCutB S' (k : Int) = isCutB S (k : Int)) ∧ S' 0 55 = S 0 55 ∧ S' 0 60 = S 0 60 ∧ (∀ f c : Nat, 48 ≤ f → f ≤ 54 → c < (S 0 47).toNat → S' f c = S f c) ∧ (∀ k, k < 13 → S' 65 k = S 65 k) ∧ (∀ f w : Nat, 56 ≤ f → f ≤ 59 → w < (S 0 55).toNat → S' f w = S f w) ∧
  ∀ g : Nat, g < (S 0 60).toNat → S' 61 g = S 61 g ∧ S' 63 g = S 63 g ∧ (∀ i : Nat, i < (S 61 g).toNat → S' 62 (6 * g + i) = S 62 (6 * g + i)) ∧ ∀ k : Nat, k < (S 63 g).toNat → S' 64 (8 * g + k) = S 64 (8 * g + k)
theorem SameE.rf : SameE S S := ⟨fun _ _ _ _ => rfl, fun _ _ => rfl, rfl, rfl, fun _ _ _ _ _ => rfl, fun _ _ => rfl, fun _ _ _ _ _ => rfl, fun _ _ => ⟨rfl, rfl, fun _ _ => rfl, fun _ _ => rfl⟩⟩
theorem SameE.word (h : SameE S S') {g : Nat} (hg : g < (S 0 60).toNat) : gword S' g = gword S g := by
  obtain ⟨h1, -, h3, -⟩ := h.2.2.2.2.2.2.2 g hg
  unfold gword
  rw [h1]
  exact List.map_congr_left (fun i hi => by rw [h3 i (List.mem_range.mp hi)])
theorem Rep.same (R : Rep Z G e b S S) (h : SameE S S') : Rep Z G e b S' S' := by
  obtain ⟨h0, hcut, h55, h60, hr, h65, hw, hg⟩ := id h
  have e47 := h0 47 (by decide) (by decide) (by decide)
  have e39 := h0 39 (by decide) (by decide) (by decide)
  have e40 := h0 40 (by decide) (by decide) (by decide)
  have ee : ∀ (c : Nat) (t : Bool), c < (S 0 47).toNat → endS S' c t = endS S c t := fun c t hc => by
    unfold endS fromS toS
    rw [hr 49 c (by decide) (by decide) hc, hr 50 c (by decide) (by decide) hc, e39]
  have ec : ∀ m v t, carriedAt S' m v t = carriedAt S m v t := fun m v t => by
    unfold carriedAt
    rw [e47]
    exact fnd_congr _ _ (fun x _ hx => by rw [hr 51 x (by decide) (by decide) (by omega), ee x t (by omega)])
  have ew : ∀ s, callWith S' s = callWith S s := fun s => callWith_congr e47 (fun x hx => ⟨hr 49 x (by decide) (by decide) hx, hr 50 x (by decide) (by decide) hx⟩)
  have ea : ∀ c : Nat, c < (S 0 47).toNat → callA G b S' c = callA G b S c := fun c hc => by unfold callA; rw [hr 48 c (by decide) (by decide) hc]
  have lt : ∀ {p : Nat → Bool} {N : Nat}, fnd p N 0 ≠ -1 → (fnd p N 0).toNat < N := fun {p N} h => by
    have rg := fnd_rng (p := p) N 0
    have := fnd_some (p := p) N 0 (fnd p N 0).toNat (by omega)
    omega
  refine ⟨R.1, ?_, ⟨fun c hc => ?_, fun k hk hn => ?_, fun s hs => ?_⟩, ?_, ?_, ?_, ?_, ?_⟩
  · obtain ⟨c1, c2, c3, c4, c5, c6, c7, c8, c9, c10⟩ := R.2.1
    unfold ScE
    rw [h0 38 (by decide) (by decide) (by decide), e39, e40, h0 46 (by decide) (by decide) (by decide), h0 44 (by decide) (by decide) (by decide), h0 42 (by decide) (by decide) (by decide), h0 43 (by decide) (by decide) (by decide), h0 45 (by decide) (by decide) (by decide)]
    exact ⟨c1, c2, c3, c4, c5, c6, c7, c8, c9, fun k hk => (c10 k hk).trans (h65 k hk).symm⟩
  · rw [e47] at hc
    rw [ea c hc, hr 48 c (by decide) (by decide) hc]
    obtain ⟨y1, y2⟩ := R.2.2.1.1 c hc
    refine ⟨y1, ?_⟩
    unfold CallO at y2 ⊢
    rw [hr 48 c (by decide) (by decide) hc, hr 49 c (by decide) (by decide) hc, hr 50 c (by decide) (by decide) hc, hr 51 c (by decide) (by decide) hc, hr 52 c (by decide) (by decide) hc, hr 53 c (by decide) (by decide) hc, hr 54 c (by decide) (by decide) hc]
    exact y2
  · exact R.2.2.1.2.1 k hk (fun c hc => by have := hn c (by rw [e47]; exact hc); rw [hr 48 c (by decide) (by decide) hc] at this; exact this)
  · rw [h0 38 (by decide) (by decide) (by decide), e39] at hs
    rw [ew, R.2.2.1.2.2 s hs]
    by_cases hw : callWith S (s : Int) = -1
    · rw [if_pos hw, if_pos hw]
    · rw [if_neg hw, if_neg hw, ea (callWith S (s : Int)).toNat (lt hw)]
  · obtain ⟨n, f, M, hn, hf⟩ := R.2.2.2.1
    refine ⟨n, f, M, ?_, fun m i t h1 h2 => ?_⟩
    · rw [hn, e47]
      congr 1
      exact sumI_congr _ _ (fun x _ hx => by rw [hr 51 x (by decide) (by decide) (by omega)])
    · rw [ec, hf m i t h1 h2]
      by_cases hw : carriedAt S (m : Int) (i : Int) t = -1
      · rw [if_pos hw, if_pos hw]
      · rw [if_neg hw, if_neg hw, ea (carriedAt S (m : Int) (i : Int) t).toNat (lt hw)]
  · obtain ⟨n, f, M, hn, hf⟩ := R.tail.1
    have ei : inOrd S' = inOrd S := by
      unfold inOrd
      rw [e40]
      exact sumI_congr _ _ (fun x _ hx => by rw [hcut x (by omega)])
    exact ⟨n, f, M, by rw [e40, ei]; exact hn, fun k hk => by rw [e40] at hk; rw [hcut k hk]; exact hf k hk⟩
  · obtain ⟨n, f, M, hn, hf, hx⟩ := R.tail.2.1
    refine ⟨n, f, M, by rw [h60]; exact hn, fun g hg' => ?_, fun c hc => ?_⟩
    · rw [h60] at hg'
      rw [h.word hg']
      exact hf g hg'
    · obtain ⟨g, g1, g2⟩ := hx c hc
      exact ⟨g, by rw [h60]; exact g1, by rw [h.word g1]; exact g2⟩
  · obtain ⟨gl, g1, g2, g3⟩ := R.tail.2.2.1
    refine ⟨gl, g1, by rw [h60]; exact g2, fun g hg' => ?_⟩
    have hgl : g < (S 0 60).toNat := by omega
    obtain ⟨y1, y2, y3, s, l, ml, y4, y5, y6, y7, y8, y9, y10, y11, y12⟩ := g3 g hg'
    obtain ⟨z1, z2, z3, z4⟩ := hg g hgl
    refine ⟨y1, y2, y3, s, l, ml, y4, by rw [h.word hgl]; exact y5, by rw [h.word hgl]; exact y6, by rw [h.word hgl]; exact y7, y8, y9, y10, by rw [z2]; exact y11, fun k hk => by rw [z4 k (by omega)]; exact y12 k hk⟩
  · obtain ⟨w1, w2, w3⟩ := R.tail.2.2.2
    refine ⟨w1, by rw [h55]; exact w2, fun w hw' => ?_⟩
    have := w3 w hw'
    unfold WaiterO at this ⊢
    rw [hw 56 w (by decide) (by decide) (by omega), hw 57 w (by decide) (by decide) (by omega), hw 58 w (by decide) (by decide) (by omega), hw 59 w (by decide) (by decide) (by omega)]
    exact this
/-- a row behind the last, of any kind -/
def rowS (S : St) (n fr to m bg l mv : Int) : St :=
  up2 (up2 (up2 (up2 (up2 (up2 (up2 (up2 S 48 (S 0 47).toNat n) 49 (S 0 47).toNat fr) 50 (S 0 47).toNat to) 51 (S 0 47).toNat m) 52 (S 0 47).toNat bg) 53 (S 0 47).toNat l) 54 (S 0 47).toNat mv) 0 47 (S 0 47 + 1)
theorem rowS_0 {n fr to m bg l mv : Int} {k : Nat} (h : k ≠ 47) : rowS S n fr to m bg l mv 0 k = S 0 k := by
  unfold rowS
  rw [up2_ne (Or.inr h), up2_ne (Or.inl (by decide)), up2_ne (Or.inl (by decide)), up2_ne (Or.inl (by decide)), up2_ne (Or.inl (by decide)), up2_ne (Or.inl (by decide)), up2_ne (Or.inl (by decide)), up2_ne (Or.inl (by decide))]
theorem rowS_47 {n fr to m bg l mv : Int} : rowS S n fr to m bg l mv 0 47 = S 0 47 + 1 := by unfold rowS; rw [up2_at]
theorem rowS_off {n fr to m bg l mv : Int} {f c : Nat} (h0 : f ≠ 0) (h : c ≠ (S 0 47).toNat ∨ f < 48 ∨ 54 < f) : rowS S n fr to m bg l mv f c = S f c := by
  unfold rowS
  rw [up2_ne (Or.inl h0), up2_ne (by omega), up2_ne (by omega), up2_ne (by omega), up2_ne (by omega), up2_ne (by omega), up2_ne (by omega), up2_ne (by omega)]
theorem rowS_at {n fr to m bg l mv : Int} : rowS S n fr to m bg l mv 48 (S 0 47).toNat = n ∧ rowS S n fr to m bg l mv 49 (S 0 47).toNat = fr ∧ rowS S n fr to m bg l mv 50 (S 0 47).toNat = to ∧ rowS S n fr to m bg l mv 51 (S 0 47).toNat = m ∧ rowS S n fr to m bg l mv 52 (S 0 47).toNat = bg ∧ rowS S n fr to m bg l mv 53 (S 0 47).toNat = l ∧ rowS S n fr to m bg l mv 54 (S 0 47).toNat = mv := by
  refine ⟨?_, ?_, ?_, ?_, ?_, ?_, ?_⟩ <;> (unfold rowS; simp [up2])
/-- who is in the call of the new row -/
theorem callWith_row {n fr to m bg l mv : Int} (r47 : 0 ≤ S 0 47) (ifr : callWith S fr = -1) (ito : callWith S to = -1) (s : Int) : callWith (rowS S n fr to m bg l mv) s = if s = fr ∨ s = to then S 0 47 else callWith S s := by
  obtain ⟨a48, a49, a50, -⟩ := rowS_at (S := S) (n := n) (fr := fr) (to := to) (m := m) (bg := bg) (l := l) (mv := mv)
  have hn : (rowS S n fr to m bg l mv 0 47).toNat = (S 0 47).toNat + 1 := by rw [rowS_47]; omega
  have old : ∀ f c : Nat, f ≠ 0 → c < (S 0 47).toNat → rowS S n fr to m bg l mv f c = S f c := fun f c h0 hc => rowS_off h0 (Or.inl (by omega))
  split
  · rename_i h
    unfold callWith
    rw [hn]
    have := fnd_of_some (p := fun c => decide (rowS S n fr to m bg l mv 49 c = s ∨ rowS S n fr to m bg l mv 50 c = s)) ((S 0 47).toNat + 1) 0 (S 0 47).toNat (Nat.zero_le _) (by omega) (decide_eq_true (by rw [a49, a50]; exact h.imp Eq.symm Eq.symm)) (fun y _ hy => decide_eq_false (fun z => by
      rw [old 49 y (by decide) hy, old 50 y (by decide) hy] at z
      rcases h with h | h
      · rw [h] at z; have := callWith_none ifr hy; omega
      · rw [h] at z; have := callWith_none ito hy; omega))
    rw [this]
    omega
  · rename_i h
    by_cases hs : callWith S s = -1
    · rw [hs]
      refine callWith_of (fun x hx => ?_)
      rw [hn] at hx
      by_cases hx' : x = (S 0 47).toNat
      · rw [hx', a49, a50]
        exact ⟨fun z => h (Or.inl z.symm), fun z => h (Or.inr z.symm)⟩
      · rw [old 49 x (by decide) (by omega), old 50 x (by decide) (by omega)]
        exact callWith_none hs (by omega)
    · have rg := fnd_rng (p := fun c => decide (S 49 c = s ∨ S 50 c = s)) (S 0 47).toNat 0
      obtain ⟨x, hx⟩ : ∃ x : Nat, callWith S s = (x : Int) := ⟨(callWith S s).toNat, by unfold callWith at hs ⊢; omega⟩
      have fs := fnd_some _ _ _ (show fnd (fun c => decide (S 49 c = s ∨ S 50 c = s)) (S 0 47).toNat 0 = (x : Int) from hx)
      rw [hx]
      unfold callWith
      rw [hn]
      refine fnd_of_some _ _ x (Nat.zero_le _) (by omega) ?_ (fun y h1 h2 => ?_)
      · rw [old 49 x (by decide) (by omega), old 50 x (by decide) (by omega)]; exact fs.2.2.1
      · rw [old 49 y (by decide) (by omega), old 50 y (by decide) (by omega)]; exact fs.2.2.2 y h1 h2
theorem carr_row {n fr to m m' bg l mv i : Int} {t : Bool} (r47 : 0 ≤ S 0 47) (hm : m' ≠ -1) : carriedAt (up2 (rowS S n fr to m bg l mv) 51 (S 0 47).toNat (-1)) m' i t = carriedAt S m' i t := by
  have hn : (up2 (rowS S n fr to m bg l mv) 51 (S 0 47).toNat (-1) 0 47).toNat = (S 0 47).toNat + 1 := by rw [up2_ne (Or.inl (by decide)), rowS_47]; omega
  have old : ∀ f c : Nat, f ≠ 0 → c < (S 0 47).toNat → up2 (rowS S n fr to m bg l mv) 51 (S 0 47).toNat (-1) f c = S f c := fun f c h0 hc => by
    rw [up2_ne (Or.inr (by omega))]
    exact rowS_off h0 (Or.inl (by omega))
  have e39 : up2 (rowS S n fr to m bg l mv) 51 (S 0 47).toNat (-1) 0 39 = S 0 39 := (up2_ne (Or.inl (by decide))).trans (rowS_0 (by decide))
  have ee : ∀ c : Nat, c < (S 0 47).toNat → endS (up2 (rowS S n fr to m bg l mv) 51 (S 0 47).toNat (-1)) c t = endS S c t := fun c hc => by
    unfold endS fromS toS
    rw [old 49 c (by decide) hc, old 50 c (by decide) hc, e39]
  by_cases hs : carriedAt S m' i t = -1
  · rw [hs]
    refine carriedAt_of (fun x hx h1 h2 => ?_)
    rw [hn] at hx
    by_cases hx' : x = (S 0 47).toNat
    · rw [hx', up2_at] at h1; exact hm h1.symm
    · rw [old 51 x (by decide) (by omega)] at h1
      rw [ee x (by omega)] at h2
      exact carriedAt_none hs (by omega) h1 h2
  · have rg := fnd_rng (p := fun c => decide (S 51 c = m' ∧ endS S c t = i)) (S 0 47).toNat 0
    obtain ⟨x, hx⟩ : ∃ x : Nat, carriedAt S m' i t = (x : Int) := ⟨(carriedAt S m' i t).toNat, by unfold carriedAt at hs ⊢; omega⟩
    have fs := fnd_some _ _ _ (show fnd (fun c => decide (S 51 c = m' ∧ endS S c t = i)) (S 0 47).toNat 0 = (x : Int) from hx)
    rw [hx]
    unfold carriedAt
    rw [hn]
    refine fnd_of_some _ _ x (Nat.zero_le _) (by omega) ?_ (fun y h1 h2 => ?_)
    · rw [old 51 x (by decide) (by omega), ee x (by omega)]; exact fs.2.2.1
    · rw [old 51 y (by decide) (by omega), ee y (by omega)]; exact fs.2.2.2 y h1 h2
/-- a call is kept; it isn't laid yet -/
theorem xr_keep {a fr to : Nat} {n m bg l mv : Int} (R : Rep Z G e b S S) (r47 : 0 ≤ S 0 47) (hn : 0 ≤ n ∧ n < 200) (hnum : ∀ c : Nat, c < (S 0 47).toNat → 0 ≤ S 48 c ∧ S 48 c ≠ n)
    (ca : gK G a = 9 ∧ gP G a = e ∧ a < gn G ∧ fI G 105 a = n ∧ fI G 106 a = (fr : Int) ∧ fI G 107 a = (to : Int) ∧ fI G 108 a = bg ∧ fI G 109 a = l ∧ fI G 110 a = m ∧ fI G 111 a = mv) (ifr : callWith S (fr : Int) = -1) (ito : callWith S (to : Int) = -1) :
    Rep Z (setQ (setQ (setQ G (b + 1) n.toNat (some a)) (b + 10) fr (some a)) (b + 10) to (some a)) e b (rowS S n (fr : Int) (to : Int) m bg l mv) (up2 (rowS S n (fr : Int) (to : Int) m bg l mv) 51 (S 0 47).toNat (-1)) ∧
      Md (fun x => x = b + 1 ∨ x = b + 10) G (setQ (setQ (setQ G (b + 1) n.toNat (some a)) (b + 10) fr (some a)) (b + 10) to (some a)) ∧ callA (setQ (setQ (setQ G (b + 1) n.toNat (some a)) (b + 10) fr (some a)) (b + 10) to (some a)) b (rowS S n (fr : Int) (to : Int) m bg l mv) (S 0 47).toNat = a := by
  have sh := R.1
  have l1 := (sh.part 1 (by decide) (by decide)).2
  have l10 := (sh.part 10 (by decide) (by decide)).2
  have le := sh.2.2.1
  have md : Md (fun x => x = b + 1 ∨ x = b + 10) G (setQ (setQ (setQ G (b + 1) n.toNat (some a)) (b + 10) fr (some a)) (b + 10) to (some a)) :=
    ((Md.rf.setQ l1 (fun _ => Or.inl rfl)).setQ l10 (fun _ => Or.inr rfl)).setQ l10 (fun _ => Or.inr rfl)
  have qR : ∀ f x, fR (setQ (setQ (setQ G (b + 1) n.toNat (some a)) (b + 10) fr (some a)) (b + 10) to (some a)) f x = fR G f x := fun _ _ => rfl
  have qA : ∀ x i, aI (setQ (setQ (setQ G (b + 1) n.toNat (some a)) (b + 10) fr (some a)) (b + 10) to (some a)) x i = aI G x i := fun _ _ => rfl
  have qL : ∀ x, gL (setQ (setQ (setQ G (b + 1) n.toNat (some a)) (b + 10) fr (some a)) (b + 10) to (some a)) x = gL G x := fun _ => rfl
  have qI : ∀ g x, fI (setQ (setQ (setQ G (b + 1) n.toNat (some a)) (b + 10) fr (some a)) (b + 10) to (some a)) g x = fI G g x := fun _ _ => rfl
  have w1 : ∀ j, aR (setQ (setQ (setQ G (b + 1) n.toNat (some a)) (b + 10) fr (some a)) (b + 10) to (some a)) (b + 1) j = if j = n.toNat then some a else aR G (b + 1) j := fun j => by
    refine (hQ_ne (G := setQ (setQ G (b + 1) n.toNat (some a)) (b + 10) fr (some a)) (Or.inl (by omega))).trans ((hQ_ne (G := setQ G (b + 1) n.toNat (some a)) (Or.inl (by omega))).trans ?_)
    split
    · rename_i h; rw [h]; exact hQ_at
    · rename_i h; exact hQ_ne (Or.inr h)
  have w10 : ∀ j, aR (setQ (setQ (setQ G (b + 1) n.toNat (some a)) (b + 10) fr (some a)) (b + 10) to (some a)) (b + 10) j = if j = fr ∨ j = to then some a else aR G (b + 10) j := fun j => by
    by_cases ht : j = to
    · rw [if_pos (Or.inr ht), ht]; exact hQ_at (G := setQ (setQ G (b + 1) n.toNat (some a)) (b + 10) fr (some a))
    · refine (hQ_ne (G := setQ (setQ G (b + 1) n.toNat (some a)) (b + 10) fr (some a)) (Or.inr ht)).trans ?_
      by_cases hr : j = fr
      · rw [if_pos (Or.inl hr), hr]; exact hQ_at (G := setQ G (b + 1) n.toNat (some a))
      · rw [if_neg (fun z => z.elim hr ht)]
        exact (hQ_ne (G := setQ G (b + 1) n.toNat (some a)) (Or.inr hr)).trans (hQ_ne (Or.inl (by omega)))
  generalize setQ (setQ (setQ G (b + 1) n.toNat (some a)) (b + 10) fr (some a)) (b + 10) to (some a) = G' at *
  obtain ⟨a48, a49, a50, a51, a52, a53, a54⟩ := rowS_at (S := S) (n := n) (fr := (fr : Int)) (to := (to : Int)) (m := m) (bg := bg) (l := l) (mv := mv)
  have hnn : (rowS S n (fr : Int) (to : Int) m bg l mv 0 47).toNat = (S 0 47).toNat + 1 := by rw [rowS_47]; omega
  have old : ∀ f c : Nat, f ≠ 0 → c < (S 0 47).toNat → rowS S n (fr : Int) (to : Int) m bg l mv f c = S f c := fun f c h0 hc => rowS_off h0 (Or.inl (by omega))
  have num : ∀ c : Nat, c < (S 0 47).toNat → (S 48 c).toNat ≠ n.toNat := fun c hc => by have := hnum c hc; omega
  have ncal : ∀ c : Nat, gK G c = 9 → ¬ (c = b + 1 ∨ c = b + 10) := fun c hc z => by
    rcases z with z | z
    · exact sh.k9 (j := 1) (by decide) (z ▸ hc)
    · exact sh.k9 (j := 10) (by decide) (z ▸ hc)
  have cA : ∀ c : Nat, c < (S 0 47).toNat + 1 → callA G' b (rowS S n (fr : Int) (to : Int) m bg l mv) c = if c = (S 0 47).toNat then a else callA G b S c := fun c hc => by
    unfold callA
    rw [w1]
    by_cases hN : c = (S 0 47).toNat
    · rw [if_pos hN, hN, a48, if_pos rfl]; rfl
    · rw [if_neg hN, old 48 c (by decide) (by omega), if_neg (num c (by omega))]
  have fp : FP G (fun x => x = b + 1 ∨ x = b + 10) := sh.fp.mono (fun x hx h => by
    rcases h with h | h
    · rw [h]; exact (sh.part 1 (by decide) (by decide)).1
    · rw [h]; exact (sh.part 10 (by decide) (by decide)).1)
  have own : ∀ j, j = 2 ∨ 4 ≤ j → j ≤ 7 → ∀ c, c < gn G → Ow G (b + j) c → ¬ (c = b + 1 ∨ c = b + 10) := fun j j1 j2 c hc ho z => by
    rcases ho with ho | ho
    · omega
    · obtain ⟨o1, o2, -⟩ := sh.own (j := j) (by omega) ho
      rcases z with z | z
      · exact o2 1 (by decide) (by decide) z
      · exact o2 10 (by decide) (by decide) z
  refine ⟨⟨sh.md1 md (fun f => qR f e), ?_, ⟨fun c hc => ?_, fun j hj hno => ?_, fun s hs => ?_⟩, ?_, ?_⟩, md, by rw [cA _ (by omega), if_pos rfl]⟩
  · refine (R.2.1.md1 sh md (by omega) (by omega)).eq (fun k h1 h2 _ => rowS_0 (by omega)) (funext fun x => rowS_off (by decide) (Or.inr (Or.inr (by decide))))
  · rw [hnn] at hc
    rw [cA c hc, w1]
    by_cases hN : c = (S 0 47).toNat
    · subst hN
      obtain ⟨x1, x2, x3, x4, x5, x6, x7, x8, x9, x10⟩ := ca
      rw [if_pos rfl, a48, if_pos rfl]
      refine ⟨rfl, (md.k x3).trans x1, (md.p x3).trans x2, Nat.lt_of_lt_of_le x3 md.1, ?_, ?_, ?_, ?_, ?_, ?_, ?_⟩
      · rw [qI 105, a48]; exact x4
      · rw [qI 106, a49]; exact x5
      · rw [qI 107, a50]; exact x6
      · rw [qI 108, a52]; exact x7
      · rw [qI 109, a53]; exact x8
      · rw [qI 110, a51]; exact x9
      · rw [qI 111, a54]; exact x10
    · have hcN : c < (S 0 47).toNat := by omega
      rw [if_neg hN, old 48 c (by decide) hcN, if_neg (num c hcN)]
      obtain ⟨y1, y2⟩ := R.2.2.1.1 c hcN
      refine ⟨y1, ?_⟩
      have y3 := y2.md md (ncal _ y2.1)
      unfold CallO at y3 ⊢
      rw [old 48 c (by decide) hcN, old 49 c (by decide) hcN, old 50 c (by decide) hcN, old 51 c (by decide) hcN, old 52 c (by decide) hcN, old 53 c (by decide) hcN, old 54 c (by decide) hcN]
      exact y3
  · rw [w1, if_neg (fun z => by
      have := hno (S 0 47).toNat (by omega)
      rw [a48] at this
      omega)]
    exact R.2.2.1.2.1 j hj (fun c hc => by have := hno c (by omega); rw [old 48 c (by decide) hc] at this; exact this)
  · rw [rowS_0 (by decide), rowS_0 (by decide)] at hs
    rw [w10, callWith_row r47 ifr ito]
    by_cases h : s = fr ∨ s = to
    · rw [if_pos h, if_pos (show ((s : Int) = (fr : Int) ∨ (s : Int) = (to : Int)) by omega), if_neg (by omega), cA _ (by omega), if_pos rfl]
    · rw [if_neg h, if_neg (show ¬ ((s : Int) = (fr : Int) ∨ (s : Int) = (to : Int)) by omega), R.2.2.1.2.2 s hs]
      by_cases hw : callWith S (s : Int) = -1
      · rw [if_pos hw, if_pos hw]
      · have rg := fnd_rng (p := fun c => decide (S 49 c = (s : Int) ∨ S 50 c = (s : Int))) (S 0 47).toNat 0
        have hx := callWith_some (S := S) (s := (s : Int)) (x := (callWith S (s : Int)).toNat) (by unfold callWith at hw ⊢; omega)
        rw [if_neg hw, if_neg hw, cA _ (by omega), if_neg (by omega)]
  · obtain ⟨nn, f, M, hnM, hf⟩ := R.2.2.2.1
    refine ⟨nn, f, M.md md (own 2 (by decide) (by decide)) (fun k' c' hk' => hk'.md md fp), ?_, fun m' i t h1 h2 => ?_⟩
    · rw [hnM, hnn, sumI_snoc, Nat.zero_add, up2_at]
      have e0 : b2i (decide ((-1 : Int) ≠ -1)) = 0 := rfl
      rw [e0, Int.add_zero]
      congr 1
      exact sumI_congr _ _ (fun x _ hx => by rw [up2_ne (Or.inr (by omega)), old 51 x (by decide) (by omega)])
    · rw [carr_row r47 (by omega), hf m' i t h1 h2]
      by_cases hw : carriedAt S (m' : Int) (i : Int) t = -1
      · rw [if_pos hw, if_pos hw]
      · have rg := fnd_rng (p := fun c => decide (S 51 c = (m' : Int) ∧ endS S c t = (i : Int))) (S 0 47).toNat 0
        have hx := (carriedAt_some (S := S) (m := (m' : Int)) (v := (i : Int)) (b := t) (x := (carriedAt S (m' : Int) (i : Int) t).toNat) (by unfold carriedAt at hw ⊢; omega)).1
        rw [if_neg hw, if_neg hw, cA _ (by omega), if_neg (by omega)]
  · exact (R.tail.md1 md (by omega) (fun j j1 j2 => own j (Or.inr j1) j2) fp).eq ⟨fun k hk => rowS_0 (by omega), fun f x hf _ => rowS_off (by omega) (Or.inr (Or.inr (by omega)))⟩
end SAME
