/-! THE EXCHANGE, 6: what a change leaves alone, part by part; lifting a call -/
section MDP
variable {Z : ZT} {G G' : GH} {P : Nat → Prop} {e b : Nat} {S S' T T' : St}
theorem ShE.md1 (h : ShE G e b) (m : Md P G G') (hR : ∀ f, fR G' f e = fR G f e) : ShE G' e b := by
  obtain ⟨h1, h2, h3, h4, ⟨h5, h6, h7⟩, h8, h9, h10⟩ := h
  have pe : gP G' e = gP G e := m.p h2
  have K : ∀ j, j ≤ 10 → gK G' (b + j) = gK G (b + j) := fun j hj => m.k (by omega)
  have L : ∀ j, j ≤ 10 → gL G' (b + j) = gL G (b + j) := fun j hj => m.l (by omega)
  refine ⟨(m.k h2).trans h1, by have := m.le; omega, h3, by have := m.le; omega, ⟨by rw [pe]; have := m.le; omega, by rw [pe, m.k h5]; exact h6, by rw [pe, m.p h5]; exact h7⟩, ?_, fun j j1 j2 => (m.p (by omega)).trans (h9 j j1 j2), ?_⟩
  · simp only [hR]; exact h8
  · rw [K 1 (by decide), L 1 (by decide), K 2 (by decide), K 3 (by decide), K 4 (by decide), K 5 (by decide), K 6 (by decide), K 7 (by decide), K 8 (by decide), L 8 (by decide), K 9 (by decide), K 10 (by decide)]
    exact h10
theorem ScE.md1 (sh : ShE G e b) (h : ScE G e b S) (m : Md P G G') (n1 : ¬ P e) (n2 : ¬ P (b + 8)) : ScE G' e b S := by
  obtain ⟨c1, c2, c3, c4, c5, c6, c7, c8, c9, c10⟩ := h
  have s := m.sm sh.2.1 n1
  have f := fun i => (s.2.2.2.1 i).1
  have p10 := m.l (b := b + 10) (sh.part 10 (by decide) (by decide)).2
  have p8 := m.sm (sh.part 8 (by decide) (by decide)).2 n2
  exact ⟨(f 9).trans c1, (f 10).trans c2, (f 11).trans c3, (f 21).trans c4, (f 22).trans c5, (f 23).trans c6, (f 24).trans c7, (f 25).trans c8, p10.trans c9, fun i hi => (p8.2.2.2.2 i).1.trans (c10 i hi)⟩
theorem callA_md1 (sh : ShE G e b) (m : Md P G G') (n1 : ¬ P (b + 1)) (c : Nat) : callA G' b S c = callA G b S c := by
  have s := m.sm (sh.part 1 (by decide) (by decide)).2 n1
  unfold callA
  rw [(s.2.2.2.2 _).2]
theorem callA_eq (h : S' 48 = S 48) (c : Nat) : callA G b S' c = callA G b S c := by unfold callA; rw [h]
theorem CallsE.md1 (sh : ShE G e b) (h : CallsE G e b S) (m : Md P G G') (n1 : ¬ P (b + 1)) (n2 : ¬ P (b + 10)) (n3 : ∀ c : Nat, c < (S 0 47).toNat → ¬ P (callA G b S c)) : CallsE G' e b S := by
  have cA := fun c => callA_md1 (S := S) sh m n1 c
  have p1 := m.sm (sh.part 1 (by decide) (by decide)).2 n1
  have p10 := m.sm (sh.part 10 (by decide) (by decide)).2 n2
  refine ⟨fun c hc => ?_, fun j hj hn => ?_, fun j hj => ?_⟩
  · obtain ⟨c1, c2⟩ := h.1 c hc
    rw [(p1.2.2.2.2 _).2, cA]
    exact ⟨c1, c2.md m (n3 c hc)⟩
  · rw [(p1.2.2.2.2 _).2]; exact h.2.1 j hj hn
  · rw [(p10.2.2.2.2 _).2, cA]; exact h.2.2 j hj
theorem CarrE.md1 (sh : ShE G e b) (h : CarrE G b S T) (m : Md P G G') (n1 : ¬ P (b + 1)) (n2 : ∀ c, c < gn G → Ow G (b + 2) c → ¬ P c) (hp : FP G P) : CarrE G' b S T := by
  obtain ⟨n, f, M, hn, hf⟩ := h
  refine ⟨n, f, M.md m n2 (fun k' c hk => hk.md m hp), hn, fun mm i t q1 q2 => ?_⟩
  rw [callA_md1 sh m n1]; exact hf mm i t q1 q2
/-- the rest: what is cut, groups, waiters -/
def TailE (Z : ZT) (G : GH) (b : Nat) (S : St) : Prop := CutE Z G b S ∧ NamesE G b S ∧ GroupsE Z G b S ∧ WaitE Z G b S
theorem CutE.md1 (h : CutE Z G b S) (m : Md P G G') (n1 : ¬ P (b + 3)) (n2 : ∀ c, c < gn G → Ow G (b + 4) c → ¬ P c) (hp : FP G P) : CutE Z G' b S := by
  obtain ⟨n, f, M, hn, hf⟩ := h
  exact ⟨n, f, M.md m n1 n2 hp, hn, hf⟩
theorem NamesE.md1 (h : NamesE G b S) (m : Md P G G') (n2 : ∀ c, c < gn G → Ow G (b + 5) c → ¬ P c) (hp : FP G P) : NamesE G' b S := by
  obtain ⟨n, f, M, hn, hf, hg⟩ := h
  refine ⟨n, f, M.md m n2 (fun k' c hk => hk.md m hp), hn, fun g hg' => ?_, hg⟩
  obtain ⟨a, a1, a2⟩ := hf g hg'
  exact ⟨a, a1, a2.md m hp⟩
theorem GroupsE.md1 (h : GroupsE Z G b S) (m : Md P G G') (n2 : ∀ c, c < gn G → Ow G (b + 6) c → ¬ P c) (hp : FP G P) : GroupsE Z G' b S := by
  obtain ⟨gl, g1, g2, g3⟩ := h
  exact ⟨gl, g1.md m (fun c hc hh => n2 c hc (hh.elim Or.inl (fun z => Or.inr z.1))), g2, fun g hg => (g3 g hg).md m hp⟩
theorem WL.md1 (h : WaitE Z G b S) (m : Md P G G') (n2 : ∀ c, c < gn G → Ow G (b + 7) c → ¬ P c) : WL G' b = WL G b := by
  obtain ⟨a1, a2, a3, a4, r, a5, a6, a7⟩ := h.1
  have w7 := m.sm a2 (n2 _ a2 (Or.inl rfl))
  unfold WL
  rw [(w7.2.2.2.1 133).1, (w7.2.2.2.1 132).2, a5, a3]
  rcases a7 with ⟨e, -⟩ | ⟨q1, q2, q3, q4, q5⟩
  · rw [e]; rfl
  · have sr := m.sm a6 (n2 r a6 (Or.inr q3))
    simp only [Option.getD_some, fun i => (sr.2.2.2.2 i).2]
theorem WaitE.md1 (h : WaitE Z G b S) (m : Md P G G') (n2 : ∀ c, c < gn G → Ow G (b + 7) c → ¬ P c) (hp : FP G P) : WaitE Z G' b S := by
  have e := WL.md1 h m n2
  obtain ⟨w1, w2, w3⟩ := h
  unfold WaitE
  rw [e]
  exact ⟨w1.md m (fun c hc hh => n2 c hc (hh.elim Or.inl (fun z => Or.inr z.1))), w2, fun w hw => (w3 w hw).md m hp⟩
theorem TailE.md1 (h : TailE Z G b S) (m : Md P G G') (n1 : ¬ P (b + 3)) (n2 : ∀ j, 4 ≤ j → j ≤ 7 → ∀ c, c < gn G → Ow G (b + j) c → ¬ P c) (hp : FP G P) : TailE Z G' b S :=
  ⟨h.1.md1 m n1 (n2 4 (by decide) (by decide)) hp, h.2.1.md1 m (n2 5 (by decide) (by decide)) hp, h.2.2.1.md1 m (n2 6 (by decide) (by decide)) hp, h.2.2.2.md1 m (n2 7 (by decide) (by decide)) hp⟩
/-- the same but for calls, accounts, and so on -/
def EqT (S S' : St) : Prop := (∀ k, k = 40 ∨ k = 41 ∨ k = 55 ∨ k = 60 → S' 0 k = S 0 k) ∧ ∀ f c, 55 ≤ f → f ≠ 65 → S' f c = S f c
theorem CutE.eq (h : CutE Z G b S) (h40 : S' 0 40 = S 0 40) (h41 : S' 0 41 = S 0 41) : CutE Z G b S' := by
  have ec : isCutB S' = isCutB S := by funext k; unfold isCutB; rw [h41]
  have ei : inOrd S' = inOrd S := by unfold inOrd; rw [h40, ec]
  obtain ⟨n, f, M, hn, hf⟩ := h
  exact ⟨n, f, M, by rw [h40, ei]; exact hn, fun k hk => by rw [ec]; exact hf k (by rw [← h40]; exact hk)⟩
theorem gword_eq (h61 : S' 61 = S 61) (h62 : S' 62 = S 62) (g : Nat) : gword S' g = gword S g := by unfold gword; rw [h61, h62]
theorem NamesE.eq (h : NamesE G b S) (h60 : S' 0 60 = S 0 60) (h61 : S' 61 = S 61) (h62 : S' 62 = S 62) : NamesE G b S' := by
  obtain ⟨n, f, M, hn, hf, hg⟩ := h
  have ew := fun g => gword_eq h61 h62 g
  refine ⟨n, f, M, by rw [h60]; exact hn, fun g hg' => ?_, fun c hc => ?_⟩
  · rw [ew]; exact hf g (by rw [← h60]; exact hg')
  · obtain ⟨g, g1, g2⟩ := hg c hc
    exact ⟨g, by rw [h60]; exact g1, by rw [ew]; exact g2⟩
theorem GroupO.eq {a g : Nat} (h : GroupO Z G a S g) (h61 : S' 61 = S 61) (h62 : S' 62 = S 62) (h63 : S' 63 = S 63) (h64 : S' 64 = S 64) : GroupO Z G a S' g := by
  unfold GroupO
  rw [gword_eq h61 h62, h63, h64]
  exact h
theorem GroupsE.eq (h : GroupsE Z G b S) (h60 : S' 0 60 = S 0 60) (h61 : S' 61 = S 61) (h62 : S' 62 = S 62) (h63 : S' 63 = S 63) (h64 : S' 64 = S 64) : GroupsE Z G b S' := by
  obtain ⟨gl, g1, g2, g3⟩ := h
  exact ⟨gl, g1, by rw [h60]; exact g2, fun g hg => (g3 g hg).eq h61 h62 h63 h64⟩
theorem WaitE.eq (h : WaitE Z G b S) (h55 : S' 0 55 = S 0 55) (hw : ∀ f, 56 ≤ f → f ≤ 59 → S' f = S f) : WaitE Z G b S' := by
  obtain ⟨w1, w2, w3⟩ := h
  refine ⟨w1, by rw [h55]; exact w2, fun w hw' => ?_⟩
  have := w3 w hw'
  unfold WaiterO at this ⊢
  rw [hw 56 (by decide) (by decide), hw 57 (by decide) (by decide), hw 58 (by decide) (by decide), hw 59 (by decide) (by decide)]
  exact this
theorem TailE.eq (h : TailE Z G b S) (q : EqT S S') : TailE Z G b S' := by
  have f := fun f h1 h2 => (funext fun c => q.2 f c h1 h2 : S' f = S f)
  have k := q.1
  exact ⟨h.1.eq (k 40 (by decide)) (k 41 (by decide)), h.2.1.eq (k 60 (by decide)) (f 61 (by decide) (by decide)) (f 62 (by decide) (by decide)), h.2.2.1.eq (k 60 (by decide)) (f 61 (by decide) (by decide)) (f 62 (by decide) (by decide)) (f 63 (by decide) (by decide)) (f 64 (by decide) (by decide)), h.2.2.2.eq (k 55 (by decide)) (fun f' h1 h2 => f f' (by omega) (by omega))⟩
theorem Rep.tail (R : Rep Z G e b S T) : TailE Z G b S := R.2.2.2.2
theorem ScE.eq (h : ScE G e b S) (h0 : ∀ k, 38 ≤ k → k ≤ 46 → k ≠ 41 → S' 0 k = S 0 k) (h65 : S' 65 = S 65) : ScE G e b S' := by
  unfold ScE
  rw [h0 38 (by decide) (by decide) (by decide), h0 39 (by decide) (by decide) (by decide), h0 40 (by decide) (by decide) (by decide), h0 46 (by decide) (by decide) (by decide), h0 44 (by decide) (by decide) (by decide), h0 42 (by decide) (by decide) (by decide), h0 43 (by decide) (by decide) (by decide), h0 45 (by decide) (by decide) (by decide), h65]
  exact h
/-- a change in e's own region -/
def CgE (e b : Nat) (G G' : GH) : Prop := Md (RegE G e b) G G'
theorem CgE.trans {A B C : GH} (h : CgE e b A B) (k : CgE e b B C) : CgE e b A C :=
  Md.trans' h k (fun c hc hr => by
    unfold RegE at hr ⊢
    rw [h.p hc] at hr
    exact hr)
theorem ShE.reg (h : ShE G e b) {c : Nat} (hc : c < gn G) (k : c = e ∨ (∃ j, 1 ≤ j ∧ j ≤ 10 ∧ c = b + j) ∨ gP G c = e ∨ ∃ j, (j = 2 ∨ 4 ≤ j) ∧ j ≤ 7 ∧ Ow G (b + j) c) : RegE G e b c := by
  rcases k with k | ⟨j, j1, j2, k⟩ | k | ⟨j, j1, j2, k⟩
  · exact Or.inl k
  · rw [k]; exact (h.part j j1 j2).1
  · exact Or.inr (Or.inl k)
  · rcases k with k | k
    · rw [k]; exact (h.part j (by omega) (by omega)).1
    · unfold RegE
      have : j = 2 ∨ j = 4 ∨ j = 5 ∨ j = 6 ∨ j = 7 := by omega
      rcases this with rfl | rfl | rfl | rfl | rfl <;> omega
theorem FP.mono {P' : Nat → Prop} (h : FP G P) (k : ∀ c, c < gn G → P' c → P c) : FP G P' := fun c hc hp => h c hc (k c hc.1 hp)
theorem Md.cg (m : Md P G G') (k : ∀ c, c < gn G → P c → RegE G e b c) : CgE e b G G' := m.mono k
/-- the parts are no two of them the same, and what one owns the others don't -/
theorem ShE.own (h : ShE G e b) {j : Nat} (hj : 1 ≤ j ∧ j ≤ 10) {c : Nat} (hc : gP G c = b + j) : c ≠ e ∧ (∀ i, 1 ≤ i → i ≤ 10 → c ≠ b + i) ∧ gP G c ≠ e := by
  have h3 := h.2.2.1
  have h9 := h.2.2.2.2.2.2.1
  obtain ⟨h5, h6, h7⟩ := h.2.2.2.2.1
  refine ⟨fun k => ?_, fun i i1 i2 k => ?_, fun k => ?_⟩
  · rw [k] at hc
    rw [hc] at h6
    obtain ⟨a1, a2, a3, a4, a5, a6, a7, a8, a9, a10, a11, a12⟩ := h.2.2.2.2.2.2.2
    have : j = 1 ∨ j = 2 ∨ j = 3 ∨ j = 4 ∨ j = 5 ∨ j = 6 ∨ j = 7 ∨ j = 8 ∨ j = 9 ∨ j = 10 := by omega
    rcases this with rfl | rfl | rfl | rfl | rfl | rfl | rfl | rfl | rfl | rfl <;> omega
  · rw [k, h9 i i1 i2] at hc; omega
  · rw [hc] at k; omega
/-- parts aren't calls -/
theorem ShE.k9 (h : ShE G e b) {j : Nat} (hj : 1 ≤ j ∧ j ≤ 10) : gK G (b + j) ≠ 9 := by
  obtain ⟨a1, a2, a3, a4, a5, a6, a7, a8, a9, a10, a11, a12⟩ := h.2.2.2.2.2.2.2
  have : j = 1 ∨ j = 2 ∨ j = 3 ∨ j = 4 ∨ j = 5 ∨ j = 6 ∨ j = 7 ∨ j = 8 ∨ j = 9 ∨ j = 10 := by omega
  rcases this with rfl | rfl | rfl | rfl | rfl | rfl | rfl | rfl | rfl | rfl <;> omega
/-- what changes as calls are lifted and laid: the map, the probe, some calls -/
def PL (G : GH) (b : Nat) (A : Nat → Prop) : Nat → Prop := fun c => Ow G (b + 2) c ∨ c = b + 9 ∨ A c
theorem PL.no (sh : ShE G e b) {A : Nat → Prop} (hA : ∀ c, A c → gP G c = e ∧ gK G c = 9) : ¬ PL G b A e ∧ (∀ j, 1 ≤ j → j ≤ 10 → j ≠ 2 → j ≠ 9 → ¬ PL G b A (b + j)) ∧ (∀ j, 4 ≤ j → j ≤ 7 → ∀ c, c < gn G → Ow G (b + j) c → ¬ PL G b A c) ∧ (∀ c, gP G c = e → gK G c = 9 → ¬ A c → ¬ PL G b A c) := by
  have h3 := sh.2.2.1
  have h9 := sh.2.2.2.2.2.2.1
  have one : ∀ j, 1 ≤ j → j ≤ 10 → j ≠ 2 → j ≠ 9 → ¬ PL G b A (b + j) := fun j j1 j2 j3 j4 hp => by
    rcases hp with (hp | hp) | hp | hp
    · omega
    · rw [h9 j j1 j2] at hp; omega
    · omega
    · exact sh.k9 ⟨j1, j2⟩ (hA _ hp).2
  refine ⟨fun hp => ?_, one, fun j j1 j2 c hc ho hp => ?_, fun c c1 c2 c3 hp => ?_⟩
  · rcases hp with (hp | hp) | hp | hp
    · omega
    · exact (sh.own (j := 2) (by decide) hp).1 rfl
    · omega
    · have := (hA _ hp).2; rw [sh.1] at this; cases this
  · rcases ho with ho | ho
    · rw [ho] at hp; exact one j (by omega) (by omega) (by omega) (by omega) hp
    · obtain ⟨o1, o2, o3⟩ := sh.own (j := j) (by omega) ho
      rcases hp with (hp | hp) | hp | hp
      · exact o2 2 (by decide) (by decide) hp
      · rw [ho] at hp; omega
      · exact o2 9 (by decide) (by decide) hp
      · exact o3 (hA _ hp).1
  · rcases hp with (hp | hp) | hp | hp
    · exact sh.k9 (j := 2) (by decide) (hp ▸ c2)
    · rw [c1] at hp; omega
    · exact sh.k9 (j := 9) (by decide) (hp ▸ c2)
    · exact c3 hp
theorem PL.reg (sh : ShE G e b) {A : Nat → Prop} (hA : ∀ c, A c → gP G c = e ∧ gK G c = 9) : ∀ c, c < gn G → PL G b A c → RegE G e b c := fun c hc hp => by
  rcases hp with hp | hp | hp
  · exact sh.reg hc (Or.inr (Or.inr (Or.inr ⟨2, Or.inl rfl, by decide, hp⟩)))
  · exact sh.reg hc (Or.inr (Or.inl ⟨9, by decide, by decide, hp⟩))
  · exact sh.reg hc (Or.inr (Or.inr (Or.inl (hA _ hp).1)))
theorem Rep.pl (R : Rep Z G e b S T) {A : Nat → Prop} (m : Md (PL G b A) G G') (hA : ∀ c, A c → gP G c = e ∧ gK G c = 9) : ShE G' e b ∧ ScE G' e b S ∧ TailE Z G' b S ∧ (∀ c, callA G' b S c = callA G b S c) ∧ CgE e b G G' ∧ FP G (PL G b A) ∧ ∀ c : Nat, c < (S 0 47).toNat → ¬ A (callA G b S c) → CallO G' e (callA G b S c) S c := by
  obtain ⟨n1, n2, n3, n4⟩ := PL.no R.1 hA
  have rg := PL.reg R.1 hA
  have fp : FP G (PL G b A) := R.1.fp.mono rg
  have se := m.sm R.1.2.1 n1
  exact ⟨R.1.md1 m (fun f => (se.2.2.2.1 f).2), R.2.1.md1 R.1 m n1 (n2 8 (by decide) (by decide) (by decide) (by decide)), R.tail.md1 m (n2 3 (by decide) (by decide) (by decide) (by decide)) n3 fp, callA_md1 R.1 m (n2 1 (by decide) (by decide) (by decide) (by decide)), m.cg rg, fp, fun c hc na => (R.co hc).md m (n4 _ (R.co hc).2.1 (R.co hc).1 na)⟩
/-- rows -/
def RwS (S : St) : Prop := ((1 ≤ S 0 39 ∧ S 0 39 ≤ 6) ∧ (0 ≤ S 0 47 ∧ S 0 47 ≤ 18)) ∧ (∀ c : Nat, c < (S 0 47).toNat → ((0 ≤ S 48 c ∧ S 48 c < 200) ∧ (0 ≤ S 49 c ∧ S 49 c < 36) ∧ (0 ≤ S 50 c ∧ S 50 c < 36)) ∧ ∀ t, ∃ n : Nat, endS S c t = (n : Int) ∧ n ≤ 5) ∧ (∀ c c' : Nat, c < (S 0 47).toNat → c' < (S 0 47).toNat → S 48 c = S 48 c' → c = c') ∧ ∀ (v : Int) (t : Bool) (l : List Nat), l.Nodup → (∀ c ∈ l, c < (S 0 47).toNat ∧ endS S c t = v) → l.length ≤ 6
theorem Inv.rw (V : Inv S) : RwS S := by
  refine ⟨⟨V.r39, V.r47⟩, fun c hc => ?_, fun c c' hc hc' e => ?_, fun v t l nd h => deg_le V nd h⟩
  · have r := V.row hc
    refine ⟨⟨r.1, r.2.1, r.2.2.1⟩, fun t => ?_⟩
    obtain ⟨n, n1, n2, -⟩ := endS_nat V hc t
    exact ⟨n, n1, n2⟩
  · rcases Nat.lt_trichotomy c c' with h | h | h
    · have := V.2.2.2.1 c c' h hc'; omega
    · exact h
    · have := V.2.2.2.1 c' c h hc; omega
theorem endS_eq (h39 : S' 0 39 = S 0 39) (h49 : S' 49 = S 49) (h50 : S' 50 = S 50) : endS S' = endS S := by
  funext c t
  unfold endS fromS toS
  rw [h39, h49, h50]
theorem RwS.eq (W : RwS S) (h39 : S' 0 39 = S 0 39) (h47 : S' 0 47 = S 0 47) (h48 : S' 48 = S 48) (h49 : S' 49 = S 49) (h50 : S' 50 = S 50) : RwS S' := by
  unfold RwS
  rw [h39, h47, h48, h49, h50, endS_eq h39 h49 h50]
  exact W
/-- calls, but for one -/
theorem CallsE.one {a c : Nat} (R : Rep Z G e b S T) (W : RwS S) (hc : c < (S 0 47).toNat) (ha : a = callA G b S c) (m : Md (PL G b (fun x => x = a)) G G') (h0 : ∀ k, S' 0 k = S 0 k) (h48 : S' 48 = S 48) (h49 : S' 49 = S 49) (h50 : S' 50 = S 50) (hr : ∀ f x, x ≠ c → 51 ≤ f → f ≤ 54 → S' f x = S f x) (hn : CallO G' e a S' c) : CallsE G' e b S' := by
  have C := R.co hc
  have hA : ∀ x, x = a → gP G x = e ∧ gK G x = 9 := fun x hx => by rw [hx, ha]; exact ⟨C.2.1, C.1⟩
  obtain ⟨-, -, -, cA, -, -, cO⟩ := R.pl m hA
  obtain ⟨n1, n2, n3, n4⟩ := PL.no R.1 hA
  have p1 := m.sm (R.1.part 1 (by decide) (by decide)).2 (n2 1 (by decide) (by decide) (by decide) (by decide))
  have p10 := m.sm (R.1.part 10 (by decide) (by decide)).2 (n2 10 (by decide) (by decide) (by decide) (by decide))
  have ew : ∀ s, callWith S' s = callWith S s := fun s => callWith_congr (h0 47) (fun x _ => ⟨by rw [h49], by rw [h50]⟩)
  have ea : ∀ x, callA G' b S' x = callA G b S x := fun x => (callA_eq h48 x).trans (cA x)
  refine ⟨fun x hx => ?_, fun k hk hn' => ?_, fun s hs => ?_⟩
  · rw [h0] at hx
    rw [(p1.2.2.2.2 _).2, ea, h48]
    refine ⟨(R.2.2.1.1 x hx).1, ?_⟩
    by_cases e' : x = c
    · rw [e', ← ha]; exact hn
    · have hne : callA G b S x ≠ a := fun z => e' (W.2.2.1 x c hx hc (by
        have c1 := (R.co hx).2.2.2.1
        have c2 := C.2.2.2.1
        rw [← ha, ← z] at c2
        exact c1.symm.trans c2))
      have := cO x hx hne
      unfold CallO at this ⊢
      rw [h48, h49, h50, hr 51 x e' (by decide) (by decide), hr 52 x e' (by decide) (by decide), hr 53 x e' (by decide) (by decide), hr 54 x e' (by decide) (by decide)]
      exact this
  · rw [(p1.2.2.2.2 _).2]
    exact R.2.2.1.2.1 k hk (fun x hx => by have := hn' x (by rw [h0]; exact hx); rw [h48] at this; exact this)
  · rw [(p10.2.2.2.2 _).2, ew, ea]
    rw [h0, h0] at hs
    exact R.2.2.1.2.2 s hs
theorem sum_one {f g : Nat → Int} {c : Nat} : ∀ n : Nat, c < n → (∀ x, x ≠ c → f x = g x) → sumI f n 0 = sumI g n 0 + (f c - g c) := by
  intro n
  induction n with
  | zero => intro h; omega
  | succ n ih =>
    intro hc h
    rw [sumI_snoc, sumI_snoc, Nat.zero_add]
    by_cases e' : c = n
    · subst e'
      rw [sumI_congr (f := f) (g := g) c 0 (fun x _ hx => h x (by omega))]
      omega
    · rw [ih (by omega) h, h n (by omega)]
      omega
theorem up_end {c : Nat} {v : Int} : endS (up2 T 51 c v) = endS T := endS_eq (up2_ne (Or.inl (by decide))) (funext fun x => up2_ne (Or.inl (by decide))) (funext fun x => up2_ne (Or.inl (by decide)))
theorem carr_up {c : Nat} {m m' i : Int} {t : Bool} (C : Col T) (hc : c < (T 0 47).toNat) (hT : T 51 c = m) (hm : m ≠ -1) (hm' : m' ≠ -1) : carriedAt (up2 T 51 c (-1)) m' i t = if m' = m ∧ endS T c t = i then -1 else carriedAt T m' i t := by
  have e47 : (up2 T 51 c (-1)) 0 47 = T 0 47 := up2_ne (Or.inl (by decide))
  split
  · rename_i h
    refine carriedAt_of (fun x hx h1 h2 => ?_)
    rw [e47] at hx
    rw [up_end] at h2
    by_cases e' : x = c
    · rw [e', up2_at] at h1; exact hm' h1.symm
    · rw [up2_ne (Or.inr e')] at h1
      exact e' (C x c hx hc (by rw [h1, hT, h.1]) (by rw [h1]; exact hm') t (by rw [h2, h.2]))
  · rename_i h
    unfold carriedAt
    rw [e47, up_end]
    refine fnd_congr _ _ (fun x _ hx => ?_)
    by_cases e' : x = c
    · subst e'
      rw [up2_at, decide_eq_false (fun z => hm' z.1.symm), decide_eq_false (fun z => h ⟨z.1.symm.trans hT, z.2⟩)]
    · rw [up2_ne (Or.inr e')]
theorem carr_lay {c : Nat} {m m' i : Int} {t : Bool} (hc : c < (T 0 47).toNat) (hT : T 51 c = -1) (hf : ∀ t, carriedAt T m (endS T c t) t = -1) (hm' : m' ≠ -1) : carriedAt (up2 T 51 c m) m' i t = if m' = m ∧ endS T c t = i then (c : Int) else carriedAt T m' i t := by
  have e47 : (up2 T 51 c m) 0 47 = T 0 47 := up2_ne (Or.inl (by decide))
  split
  · rename_i h
    unfold carriedAt
    rw [e47, up_end]
    refine fnd_of_some _ _ c (Nat.zero_le _) (by omega) (decide_eq_true ⟨by rw [up2_at]; exact h.1.symm, h.2⟩) (fun y _ hy => decide_eq_false (fun z => ?_))
    rw [up2_ne (Or.inr (by omega))] at z
    exact carriedAt_none (hf t) (x := y) (by omega) (z.1.trans h.1) (z.2.trans h.2.symm)
  · rename_i h
    unfold carriedAt
    rw [e47, up_end]
    refine fnd_congr _ _ (fun x _ hx => ?_)
    by_cases e' : x = c
    · subst e'
      rw [up2_at, decide_eq_false (fun z => h ⟨z.1.symm, z.2⟩), decide_eq_false (fun z => hm' (z.1.symm.trans hT))]
    · rw [up2_ne (Or.inr e')]
end MDP
