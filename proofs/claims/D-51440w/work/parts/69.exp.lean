/-! PURE FACTS for the exchange: loads, degrees, walks of at most ten, sets of middles -/
section EXP
variable {S : St}
theorem stage_lt (V : Inv S) {c : Nat} (hc : c < (S 0 47).toNat) (b : Bool) : 0 ≤ endS S c b ∧ endS S c b < S 0 38 := by
  have h := V.2.2.2.2.2.1 c hc
  have r := V.1.2.1 c hc
  cases b
  · exact stage_rng V.1 ⟨r.2.1.1, h.1⟩
  · exact stage_rng V.1 ⟨r.2.2.1.1, h.2⟩
/-- the calls on a middle, counted by switches -/
theorem load_eq (V : Inv S) {m : Int} (hm : 0 ≤ m) : sumI (fun i => b2i (decide (carriedAt S m (i : Int) false ≠ -1))) (S 0 38).toNat 0 = loadOf S m := by
  unfold loadOf
  rw [sumI_len, sumI_len]
  have C := V.2.1
  have r38 := V.1.1.1
  congr 1
  apply Nat.le_antisymm
  · have e := nodup_sub (((List.range (S 0 38).toNat).filter (fun i : Nat => decide (carriedAt S m (i : Int) false ≠ -1))).map (fun i : Nat => (carriedAt S m (i : Int) false).toNat)) ((List.range (S 0 47).toNat).filter (fun c => decide (S 51 c = m))) ?_ ?_
    · rw [List.length_map] at e; exact e
    · refine nodup_map (List.nodup_range.filter _) (fun x hx y hy e => ?_)
      have hx := of_decide_eq_true (List.mem_filter.mp hx).2
      have hy := of_decide_eq_true (List.mem_filter.mp hy).2
      have ax := fnd_rng (p := fun c => decide (S 51 c = m ∧ endS S c false = (x : Int))) (S 0 47).toNat 0
      have ay := fnd_rng (p := fun c => decide (S 51 c = m ∧ endS S c false = (y : Int))) (S 0 47).toNat 0
      have h1 := carriedAt_some (S := S) (m := m) (v := x) (b := false) (x := (carriedAt S m (x : Int) false).toNat) (by unfold carriedAt at hx ⊢; omega)
      have h2 := carriedAt_some (S := S) (m := m) (v := y) (b := false) (x := (carriedAt S m (y : Int) false).toNat) (by unfold carriedAt at hy ⊢; omega)
      have h3 := h1.2.2
      have h4 := h2.2.2
      rw [e] at h3
      omega
    · intro x hx
      obtain ⟨i, hi, rfl⟩ := List.mem_map.mp hx
      have hi := of_decide_eq_true (List.mem_filter.mp hi).2
      have ai := fnd_rng (p := fun c => decide (S 51 c = m ∧ endS S c false = (i : Int))) (S 0 47).toNat 0
      have h1 := carriedAt_some (S := S) (m := m) (v := i) (b := false) (x := (carriedAt S m (i : Int) false).toNat) (by unfold carriedAt at hi ⊢; omega)
      exact List.mem_filter.mpr ⟨List.mem_range.mpr h1.1, decide_eq_true h1.2.1⟩
  · have e := nodup_sub (((List.range (S 0 47).toNat).filter (fun c => decide (S 51 c = m))).map (fun c => (endS S c false).toNat)) ((List.range (S 0 38).toNat).filter (fun i : Nat => decide (carriedAt S m (i : Int) false ≠ -1))) ?_ ?_
    · rw [List.length_map] at e; exact e
    · refine nodup_map (List.nodup_range.filter _) (fun x hx y hy e => ?_)
      obtain ⟨x1, x2⟩ := List.mem_filter.mp hx
      obtain ⟨y1, y2⟩ := List.mem_filter.mp hy
      have x1 := List.mem_range.mp x1
      have y1 := List.mem_range.mp y1
      have sx := stage_lt V x1 false
      have sy := stage_lt V y1 false
      have x2 := of_decide_eq_true x2
      exact C x y x1 y1 (x2.trans (of_decide_eq_true y2).symm) (by omega) false (by omega)
    · intro i hi
      obtain ⟨c, hc, rfl⟩ := List.mem_map.mp hi
      obtain ⟨c1, c2⟩ := List.mem_filter.mp hc
      have c1 := List.mem_range.mp c1
      have c2 := of_decide_eq_true c2
      have sc := stage_lt V c1 false
      refine List.mem_filter.mpr ⟨List.mem_range.mpr (by omega), decide_eq_true (fun h => ?_)⟩
      exact carriedAt_none h c1 c2 (by omega)
theorem load_le (V : Inv S) {m : Int} (hm : 0 ≤ m) : 0 ≤ loadOf S m ∧ loadOf S m ≤ 6 := by
  rw [← load_eq V hm, sumI_len]
  have r38 := V.1.1.1
  have h := List.length_filter_le (fun i : Nat => decide (carriedAt S m (i : Int) false ≠ -1)) (List.range (S 0 38).toNat)
  rw [List.length_range] at h
  omega
/-- some rows of the same end lie at different middles: at most six -/
theorem deg_le (V : Inv S) {v : Int} {b : Bool} {l : List Nat} (nd : l.Nodup) (h : ∀ c ∈ l, c < (S 0 47).toNat ∧ endS S c b = v) : l.length ≤ 6 := by
  have r39 := V.1.1.2.1
  have R7 := V.2.2.2.2.2.2.2.1
  have key : ∀ f : Nat → Int, (∀ c, c < (S 0 47).toNat → 0 ≤ f c) → (∀ c ∈ l, (f c).tdiv (S 0 39) = v) → (∀ c c' : Nat, c < (S 0 47).toNat → c' < (S 0 47).toNat → c ≠ c' → f c ≠ f c') → l.length ≤ 6 := by
    intro f hf hv hne
    have e := nodup_le 6 (l.map (fun c => (f c - v * S 0 39).toNat)) (nodup_map nd (fun x hx y hy e => ?_)) (fun z hz => ?_)
    · rw [List.length_map] at e; exact e
    · have h1 := hv x hx
      have h2 := hv y hy
      have p1 := hf x (h x hx).1
      have p2 := hf y (h y hy).1
      rw [Int.tdiv_eq_ediv_of_nonneg p1] at h1
      rw [Int.tdiv_eq_ediv_of_nonneg p2] at h2
      have q1 := Int.mul_ediv_add_emod (f x) (S 0 39)
      have q2 := Int.mul_ediv_add_emod (f y) (S 0 39)
      have m1 := Int.emod_nonneg (f x) (show S 0 39 ≠ 0 by omega)
      have m2 := Int.emod_nonneg (f y) (show S 0 39 ≠ 0 by omega)
      rw [h1, Int.mul_comm] at q1
      rw [h2, Int.mul_comm] at q2
      by_cases e' : x = y
      · exact e'
      · exact absurd (by omega) (hne x y (h x hx).1 (h y hy).1 e')
    · obtain ⟨c, hc, rfl⟩ := List.mem_map.mp hz
      have h1 := hv c hc
      have p1 := hf c (h c hc).1
      rw [Int.tdiv_eq_ediv_of_nonneg p1] at h1
      have q1 := Int.mul_ediv_add_emod (f c) (S 0 39)
      have m1 := Int.emod_nonneg (f c) (show S 0 39 ≠ 0 by omega)
      have m2 := Int.emod_lt_of_pos (f c) (show 0 < S 0 39 by omega)
      rw [h1, Int.mul_comm] at q1
      show (f c - v * S 0 39).toNat < 6
      omega
  cases b
  · exact key (fun c => S 49 c) (fun c hc => (V.1.2.1 c hc).2.1.1) (fun c hc => (h c hc).2) (fun c c' h1 h2 h3 => (R7 c c' h1 h2 h3).1)
  · exact key (fun c => S 50 c) (fun c hc => (V.1.2.1 c hc).2.2.1.1) (fun c hc => (h c hc).2) (fun c c' h1 h2 h3 => (R7 c c' h1 h2 h3).2)
theorem walkL_mm {p q : Int} : ∀ (r : Nat) (c : Int) (b : Bool), (∀ x : Nat, c = (x : Int) → x < (S 0 47).toNat ∧ (S 51 x = p ∨ S 51 x = q)) → -1 ≤ c → ∀ y ∈ walkL S p q r c b, y < (S 0 47).toNat ∧ (S 51 y = p ∨ S 51 y = q) := by
  intro r
  induction r with
  | zero => intro c b _ _ y hy; cases hy
  | succ r ih =>
    intro c b h hc y hy
    unfold walkL at hy
    split at hy
    · cases hy
    · rename_i hn
      rcases List.mem_cons.mp hy with e | hy
      · rw [e]; exact h c.toNat (by omega)
      · refine ih _ _ (fun x hx => ?_) (fnd_rng _ _).1 y hy
        have := carriedAt_some hx
        refine ⟨this.1, ?_⟩
        rw [this.2.1]
        split
        · exact Or.inr rfl
        · exact Or.inl rfl
theorem walkS_mm {p q i j : Int} {first : Bool} : ∀ y ∈ walkS S p q i j first, y < (S 0 47).toNat ∧ (S 51 y = p ∨ S 51 y = q) := by
  unfold walkS
  cases first
  · exact walkL_mm 21 _ _ (fun x hx => by
      have := carriedAt_some hx
      exact ⟨this.1, Or.inr this.2.1⟩) (fnd_rng _ _).1
  · exact walkL_mm 21 _ _ (fun x hx => by
      have := carriedAt_some hx
      exact ⟨this.1, Or.inl this.2.1⟩) (fnd_rng _ _).1
theorem side_le (V : Inv S) {m v : Int} {b : Bool} (hm : 0 ≤ m) (h0 : carriedAt S m v b = -1) (hv : 0 ≤ v ∧ v < S 0 38) {l : List Nat} (nd : l.Nodup) (h : ∀ c ∈ l, c < (S 0 47).toNat ∧ S 51 c = m) : l.length ≤ 5 := by
  have r38 := V.1.1.1
  have e := nodup_sub (l.map (fun c => (endS S c b).toNat)) ((List.range (S 0 38).toNat).erase v.toNat) (nodup_map nd (fun x hx y hy e => ?_)) (fun z hz => ?_)
  · rw [List.length_map, List.length_erase_of_mem (List.mem_range.mpr (by omega)), List.length_range] at e
    omega
  · have sx := stage_lt V (h x hx).1 b
    have sy := stage_lt V (h y hy).1 b
    exact V.2.1 x y (h x hx).1 (h y hy).1 ((h x hx).2.trans (h y hy).2.symm) (by rw [(h x hx).2]; omega) b (by omega)
  · obtain ⟨c, hc, rfl⟩ := List.mem_map.mp hz
    have sc := stage_lt V (h c hc).1 b
    refine (List.mem_erase_of_ne (fun e => ?_)).mpr (List.mem_range.mpr (by omega))
    exact carriedAt_none h0 (h c hc).1 (h c hc).2 (by omega)
theorem len_split (f : Nat → Bool) : ∀ l : List Nat, l.length = (l.filter f).length + (l.filter (fun x => !f x)).length := by
  intro l
  induction l with
  | nil => rfl
  | cons a l ih => cases h : f a <;> simp [List.filter_cons, h] <;> omega
/-- a chain's walk: at most ten calls -/
theorem walk_ten (V : Inv S) {p q i j : Int} {first : Bool} (hp : 0 ≤ p) (hq : 0 ≤ q) (h1 : carriedAt S p i false = -1) (h2 : carriedAt S q j true = -1) (hi : 0 ≤ i ∧ i < S 0 38) (hj : 0 ≤ j ∧ j < S 0 38) (nd : (walkS S p q i j first).Nodup) : (walkS S p q i j first).length ≤ 10 := by
  have hm := walkS_mm (S := S) (p := p) (q := q) (i := i) (j := j) (first := first)
  generalize walkS S p q i j first = l at *
  rw [len_split (fun c => decide (S 51 c = p)) l]
  have a := side_le V hp h1 hi (l := l.filter (fun c => decide (S 51 c = p))) (nd.filter _) (fun c hc => ⟨(hm c (List.mem_filter.mp hc).1).1, of_decide_eq_true (List.mem_filter.mp hc).2⟩)
  have b := side_le V hq h2 hj (l := l.filter (fun c => !decide (S 51 c = p))) (nd.filter _) (fun c hc => by
    obtain ⟨c1, c2⟩ := List.mem_filter.mp hc
    obtain ⟨d1, d2⟩ := hm c c1
    refine ⟨d1, d2.resolve_left (fun e => ?_)⟩
    rw [decide_eq_true e] at c2
    cases c2)
  omega
theorem walk_fit (V : Inv S) {i j low : Int} (N : NoOpen S i j low) {p q : Int} (hp : 0 ≤ p ∧ p < S 0 40) (hq : 0 ≤ q ∧ q < S 0 40) (tp : isThereB S p low = true) (fp : carriedAt S p i false = -1) (fq : carriedAt S q j true = -1) (hi : 0 ≤ i ∧ i < S 0 38) (hj : 0 ≤ j ∧ j < S 0 38) (first : Bool) : (walkS S p q i j first).Nodup ∧ (walkS S p q i j first).length ≤ 10 := by
  have C := V.2.1
  have hpq := ne_of_noOpen N hp tp fp fq
  have nd : (walkS S p q i j first).Nodup := by
    cases first with
    | true => exact wk_nodup (r := 21) (m0 := p) (m1 := q) (v0 := j) (σ := true) C (Or.inl ⟨rfl, rfl⟩) hpq (by omega) (by omega) fq
    | false => exact wk_nodup (r := 21) (m0 := q) (m1 := p) (v0 := i) (σ := false) C (Or.inr ⟨rfl, rfl⟩) hpq.symm (by omega) (by omega) fp
  exact ⟨nd, walk_ten V hp.1 hq.1 fp fq hi hj nd⟩
/-- a set of middles -/
def SetIs (S : St) (w low : Int) : Prop := inR w ∧ ∀ m : Nat, (m : Int) < S 0 40 → iand (ishr w (m : Int)) 1 = b2i (isThereB S (m : Int) low)
theorem set_of {S : St} {w : Nat} {low : Int} (r : 1 ≤ S 0 40 ∧ S 0 40 ≤ 9) (hw : w < 512) (h : ∀ m : Nat, (m : Int) < S 0 40 → w.testBit m = isThereB S (m : Int) low) : SetIs S (w : Int) low := by
  refine ⟨by omega, fun m hm => ?_⟩
  have e := shr_nat ⟨m, by omega⟩ ⟨w, hw⟩
  dsimp only at e
  rw [e, ← h m hm]
  have l : w >>> m < 512 := Nat.lt_of_le_of_lt (Nat.shiftRight_le w m) hw
  have e2 := and1_nat ⟨w >>> m, l⟩
  dsimp only at e2
  rw [e2, Nat.testBit_eq_decide_div_mod_eq, Nat.shiftRight_eq_div_pow]
  have : w / 2 ^ m % 2 = 0 ∨ w / 2 ^ m % 2 = 1 := by omega
  rcases this with e | e <;> rw [e] <;> rfl
theorem there_all {k : Nat} (hk : (k : Int) < S 0 40) : isThereB S (k : Int) (S 0 40) = !isCutB S (k : Int) := by
  unfold isThereB
  have : sumI (fun k => b2i (!isCutB S k)) ((k : Int)).toNat 0 < S 0 40 := by
    rw [Int.toNat_natCast, sumI_len]
    have := List.length_filter_le (fun k : Nat => !isCutB S (k : Int)) (List.range k)
    rw [List.length_range] at this
    omega
  rw [decide_eq_true this, Bool.and_true]
end EXP
