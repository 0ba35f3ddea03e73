/-! THE PURE PICTURE, 2: what holds of the exchange; a walk has an end; a chain makes room -/
theorem fnd_some {p : Nat → Bool} : ∀ (k c x : Nat), fnd p k c = (x : Int) → c ≤ x ∧ x < c + k ∧ p x = true ∧ ∀ y, c ≤ y → y < x → p y = false := by
  intro k
  induction k with
  | zero => intro c x h; simp only [fnd] at h; omega
  | succ k ih =>
    intro c x h
    simp only [fnd] at h
    split at h
    · rename_i hp
      have e : c = x := by omega
      subst e
      exact ⟨by omega, by omega, hp, fun y h1 h2 => by omega⟩
    · rename_i hp
      obtain ⟨h1, h2, h3, h4⟩ := ih (c + 1) x h
      refine ⟨by omega, by omega, h3, fun y g1 g2 => ?_⟩
      by_cases e : y = c
      · subst e; simpa using hp
      · exact h4 y (by omega) g2
theorem fnd_none {p : Nat → Bool} : ∀ (k c : Nat), fnd p k c = -1 → ∀ x, c ≤ x → x < c + k → p x = false := by
  intro k
  induction k with
  | zero => intro c _ x h1 h2; omega
  | succ k ih =>
    intro c h x h1 h2
    simp only [fnd] at h
    split at h
    · omega
    · rename_i hp
      by_cases e : x = c
      · subst e; simpa using hp
      · exact ih (c + 1) h x (by omega) (by omega)
theorem fnd_of_none {p : Nat → Bool} : ∀ (k c : Nat), (∀ x, c ≤ x → x < c + k → p x = false) → fnd p k c = -1 := by
  intro k
  induction k with
  | zero => intro c _; rfl
  | succ k ih =>
    intro c h
    simp only [fnd]
    rw [if_neg (by rw [h c (by omega) (by omega)]; decide)]
    exact ih (c + 1) (fun x h1 h2 => h x (by omega) (by omega))
theorem fnd_of_some {p : Nat → Bool} : ∀ (k c x : Nat), c ≤ x → x < c + k → p x = true → (∀ y, c ≤ y → y < x → p y = false) → fnd p k c = (x : Int) := by
  intro k
  induction k with
  | zero => intro c x h1 h2; omega
  | succ k ih =>
    intro c x h1 h2 hp hy
    simp only [fnd]
    by_cases e : x = c
    · subst e; rw [if_pos hp]
    · rw [if_neg (by rw [hy c (by omega) (by omega)]; decide)]
      exact ih (c + 1) x (by omega) (by omega) hp (fun y g1 g2 => hy y (by omega) g2)
theorem fnd_congr {p p' : Nat → Bool} : ∀ (k c : Nat), (∀ x, c ≤ x → x < c + k → p x = p' x) → fnd p k c = fnd p' k c := by
  intro k
  induction k with
  | zero => intro c _; rfl
  | succ k ih =>
    intro c h
    simp only [fnd]
    rw [h c (by omega) (by omega), ih (c + 1) (fun x h1 h2 => h x (by omega) (by omega))]
theorem sumI_congr {f g : Nat → Int} : ∀ (k c : Nat), (∀ x, c ≤ x → x < c + k → f x = g x) → sumI f k c = sumI g k c := by
  intro k
  induction k with
  | zero => intro c _; rfl
  | succ k ih =>
    intro c h
    simp only [sumI]
    rw [h c (by omega) (by omega), ih (c + 1) (fun x h1 h2 => h x (by omega) (by omega))]
theorem carriedAt_some {S : St} {m v : Int} {b : Bool} {x : Nat} (h : carriedAt S m v b = (x : Int)) : x < (S 0 47).toNat ∧ S 51 x = m ∧ endS S x b = v := by
  obtain ⟨-, h2, h3, -⟩ := fnd_some _ _ _ h
  simp only [decide_eq_true_eq] at h3
  exact ⟨by omega, h3⟩
theorem carriedAt_none {S : St} {m v : Int} {b : Bool} (h : carriedAt S m v b = -1) {x : Nat} (hx : x < (S 0 47).toNat) (h1 : S 51 x = m) (h2 : endS S x b = v) : False := by
  have := fnd_none _ _ h x (by omega) (by omega)
  simp [h1, h2] at this
theorem carriedAt_of {S : St} {m v : Int} {b : Bool} (h : ∀ x : Nat, x < (S 0 47).toNat → S 51 x = m → endS S x b = v → False) : carriedAt S m v b = -1 := by
  refine fnd_of_none _ _ (fun x _ hx => ?_)
  rw [decide_eq_false_iff_not]
  exact fun q => h x (by omega) q.1 q.2
theorem callWith_none {S : St} {s : Int} (h : callWith S s = -1) {x : Nat} (hx : x < (S 0 47).toNat) : S 49 x ≠ s ∧ S 50 x ≠ s := by
  have := fnd_none _ _ h x (by omega) (by omega)
  rw [decide_eq_false_iff_not] at this
  exact ⟨fun e => this (Or.inl e), fun e => this (Or.inr e)⟩
theorem callWith_of {S : St} {s : Int} (h : ∀ x : Nat, x < (S 0 47).toNat → S 49 x ≠ s ∧ S 50 x ≠ s) : callWith S s = -1 := by
  refine fnd_of_none _ _ (fun x _ hx => ?_)
  rw [decide_eq_false_iff_not]
  rintro (e | e)
  · exact (h x (by omega)).1 e
  · exact (h x (by omega)).2 e
theorem callWith_some {S : St} {s : Int} {x : Nat} (h : callWith S s = (x : Int)) : x < (S 0 47).toNat ∧ (S 49 x = s ∨ S 50 x = s) := by
  obtain ⟨-, h2, h3, -⟩ := fnd_some _ _ _ h
  simp only [decide_eq_true_eq] at h3
  exact ⟨by omega, h3⟩
theorem waitAt_none {S : St} {s : Int} (h : waitAt S s = -1) {x : Nat} (hx : x < (S 0 55).toNat) : S 56 x ≠ s := by
  have := fnd_none _ _ h x (by omega) (by omega)
  rw [decide_eq_false_iff_not] at this
  exact this
theorem waitAt_of {S : St} {s : Int} (h : ∀ x : Nat, x < (S 0 55).toNat → S 56 x ≠ s) : waitAt S s = -1 := by
  refine fnd_of_none _ _ (fun x _ hx => ?_)
  rw [decide_eq_false_iff_not]
  exact h x (by omega)
theorem waitAt_some {S : St} {s : Int} {x : Nat} (h : waitAt S s = (x : Int)) : x < (S 0 55).toNat ∧ S 56 x = s := by
  obtain ⟨-, h2, h3, -⟩ := fnd_some _ _ _ h
  simp only [decide_eq_true_eq] at h3
  exact ⟨by omega, h3⟩
theorem idle_iff {S : St} {s : Int} : idleB S s = true ↔ callWith S s = -1 ∧ waitAt S s = -1 := by unfold idleB; exact decide_eq_true_iff
/-- no middle carries two calls from a switch, or to it -/
def Col (S : St) : Prop := ∀ c c' : Nat, c < (S 0 47).toNat → c' < (S 0 47).toNat → S 51 c = S 51 c' → S 51 c ≠ -1 → ∀ b, endS S c b = endS S c' b → c = c'
theorem Col.at {S : St} (h : Col S) {m v : Int} {b : Bool} {x : Nat} (hx : x < (S 0 47).toNat) (hm : m ≠ -1) (h1 : S 51 x = m) (h2 : endS S x b = v) : carriedAt S m v b = (x : Int) := by
  subst h1 h2
  cases hc : carriedAt S (S 51 x) (endS S x b) b with
  | ofNat y =>
    obtain ⟨g1, g2, g3⟩ := carriedAt_some hc
    rw [h y x g1 hx g2 (by rw [g2]; exact hm) b g3]
    rfl
  | negSucc y =>
    have r := carriedAt_rng (S := S) (m := S 51 x) (s := endS S x b) (b := b)
    exact absurd rfl (fun _ : (0 : Nat) = 0 => carriedAt_none (by rw [hc] at r ⊢; omega) hx rfl rfl)
/-- the alternation of a walk -/
def alt (b : Bool) (t : Nat) : Bool := if t % 2 = 0 then b else !b
theorem alt_succ (b : Bool) (t : Nat) : alt b (t + 1) = alt (!b) t := by
  unfold alt
  by_cases h : t % 2 = 0
  · rw [if_pos h, if_neg (by omega)]
  · rw [if_neg h, if_pos (by omega), Bool.not_not]
theorem alt_succ' (b : Bool) (t : Nat) : alt b (t + 1) = !alt b t := by
  rw [alt_succ]
  unfold alt
  split <;> simp
theorem walkL_zero {S : St} {p q : Int} {r : Nat} {c : Int} {b : Bool} (h : 0 < (walkL S p q r c b).length) (hc : -1 ≤ c) : (((walkL S p q r c b)[0] : Nat) : Int) = c := by
  cases r with
  | zero => simp [walkL] at h
  | succ r =>
    by_cases hx : c = -1
    · simp [walkL, hx] at h
    · have e : walkL S p q (r + 1) c b = c.toNat :: walkL S p q r (carriedAt S (if S 51 c.toNat = p then q else p) (endS S c.toNat b) b) (!b) := by simp [walkL, hx]
      simp only [e, List.getElem_cons_zero]
      omega
theorem walkL_next {S : St} {p q : Int} : ∀ (r : Nat) (c : Int) (b : Bool) (t : Nat) (h : t + 1 < (walkL S p q r c b).length), (((walkL S p q r c b)[t + 1] : Nat) : Int) = carriedAt S (if S 51 (walkL S p q r c b)[t] = p then q else p) (endS S (walkL S p q r c b)[t] (alt b t)) (alt b t) := by
  intro r
  induction r with
  | zero => intro c b t h; simp [walkL] at h
  | succ r ih =>
    intro c b t h
    by_cases hc : c = -1
    · simp [walkL, hc] at h
    · have e : walkL S p q (r + 1) c b = c.toNat :: walkL S p q r (carriedAt S (if S 51 c.toNat = p then q else p) (endS S c.toNat b) b) (!b) := by simp [walkL, hc]
      simp only [e, List.length_cons] at h
      cases t with
      | zero =>
        simp only [e, List.getElem_cons_succ, List.getElem_cons_zero]
        have h0 : 0 < (walkL S p q r (carriedAt S (if S 51 c.toNat = p then q else p) (endS S c.toNat b) b) (!b)).length := by omega
        exact walkL_zero h0 carriedAt_rng.1
      | succ t =>
        simp only [e, List.getElem_cons_succ]
        rw [alt_succ]
        exact ih _ (!b) t (by omega)
/-- where a walk stops before its fuel does, nothing goes on -/
theorem walkL_last {S : St} {p q : Int} : ∀ (r : Nat) (c : Int) (b : Bool) (t : Nat) (h : t + 1 = (walkL S p q r c b).length), t + 1 < r → carriedAt S (if S 51 ((walkL S p q r c b)[t]'(by omega)) = p then q else p) (endS S ((walkL S p q r c b)[t]'(by omega)) (alt b t)) (alt b t) = -1 := by
  intro r
  induction r with
  | zero => intro c b t h; simp [walkL] at h
  | succ r ih =>
    intro c b t h hr
    by_cases hc : c = -1
    · simp [walkL, hc] at h
    · have e : walkL S p q (r + 1) c b = c.toNat :: walkL S p q r (carriedAt S (if S 51 c.toNat = p then q else p) (endS S c.toNat b) b) (!b) := by simp [walkL, hc]
      simp only [e, List.length_cons] at h
      cases t with
      | zero =>
        simp only [e, List.getElem_cons_zero]
        show carriedAt S (if S 51 c.toNat = p then q else p) (endS S c.toNat b) b = -1
        generalize hn : carriedAt S (if S 51 c.toNat = p then q else p) (endS S c.toNat b) b = nx at h
        cases r with
        | zero => omega
        | succ r =>
          by_cases hx : nx = -1
          · exact hx
          · simp [walkL, hx] at h
      | succ t =>
        simp only [e, List.getElem_cons_succ]
        rw [alt_succ]
        exact ih _ (!b) t (by omega) (by omega)
theorem nodup_le : ∀ (N : Nat) (l : List Nat), l.Nodup → (∀ x ∈ l, x < N) → l.length ≤ N := by
  intro N
  induction N with
  | zero =>
    intro l _ h
    cases l with
    | nil => exact Nat.le_refl _
    | cons a t => exact absurd (h a List.mem_cons_self) (by omega)
  | succ N ih =>
    intro l hl h
    by_cases hm : N ∈ l
    · have h1 := ih (l.erase N) (hl.erase N) (fun x hx => by
        have h2 := h x (List.mem_of_mem_erase hx)
        have h3 : x ≠ N := fun e => by rw [e] at hx; exact (hl.not_mem_erase) hx
        omega)
      rw [List.length_erase_of_mem hm] at h1
      omega
    · have := ih l hl (fun x hx => by
        have h2 := h x hx
        have h3 : x ≠ N := fun e => by rw [e] at hx; exact hm hx
        omega)
      omega
section WALKS
variable {S : St} {p q m0 m1 v0 w0 : Int} {σ : Bool} {r : Nat}
/-- the other one of a chain's two middles -/
def oth (S : St) (p q : Int) (x : Nat) : Int := if S 51 x = p then q else p
theorem oth_0 (hpq : (p = m0 ∧ q = m1) ∨ (p = m1 ∧ q = m0)) (hne : m0 ≠ m1) {x : Nat} (h : S 51 x = m0) : oth S p q x = m1 := by
  unfold oth
  rcases hpq with ⟨rfl, rfl⟩ | ⟨rfl, rfl⟩
  · rw [if_pos h]
  · rw [if_neg (by rw [h]; exact hne)]
theorem oth_1 (hpq : (p = m0 ∧ q = m1) ∨ (p = m1 ∧ q = m0)) (hne : m0 ≠ m1) {x : Nat} (h : S 51 x = m1) : oth S p q x = m0 := by
  unfold oth
  rcases hpq with ⟨rfl, rfl⟩ | ⟨rfl, rfl⟩
  · rw [if_neg (by rw [h]; exact hne.symm)]
  · rw [if_pos h]
theorem wk_mid (hpq : (p = m0 ∧ q = m1) ∨ (p = m1 ∧ q = m0)) (hne : m0 ≠ m1) : ∀ (t : Nat) (h : t < (walkL S p q r (carriedAt S m0 v0 σ) (!σ)).length),
    (walkL S p q r (carriedAt S m0 v0 σ) (!σ))[t] < (S 0 47).toNat ∧ S 51 (walkL S p q r (carriedAt S m0 v0 σ) (!σ))[t] = if t % 2 = 0 then m0 else m1 := by
  intro t
  induction t with
  | zero =>
    intro h
    have h0 := walkL_zero h carriedAt_rng.1
    obtain ⟨g1, g2, g3⟩ := carriedAt_some h0.symm
    exact ⟨g1, by rw [if_pos rfl]; exact g2⟩
  | succ t ih =>
    intro h
    obtain ⟨i1, i2⟩ := ih (by omega)
    have hn := walkL_next r _ _ t h
    obtain ⟨g1, g2, g3⟩ := carriedAt_some hn.symm
    refine ⟨g1, g2.trans ?_⟩
    show oth S p q _ = _
    by_cases ht : t % 2 = 0
    · rw [if_pos ht] at i2
      rw [if_neg (by omega), oth_0 hpq hne i2]
    · rw [if_neg ht] at i2
      rw [if_pos (by omega), oth_1 hpq hne i2]
theorem wk_end {c : Int} {b : Bool} (t : Nat) (h : t + 1 < (walkL S p q r c b).length) : endS S (walkL S p q r c b)[t + 1] (alt b t) = endS S (walkL S p q r c b)[t] (alt b t) :=
  (carriedAt_some (walkL_next r _ _ t h).symm).2.2
theorem wk_nodup (C : Col S) (hpq : (p = m0 ∧ q = m1) ∨ (p = m1 ∧ q = m0)) (hne : m0 ≠ m1) (h0 : m0 ≠ -1) (h1 : m1 ≠ -1) (f1 : carriedAt S m1 v0 σ = -1) : (walkL S p q r (carriedAt S m0 v0 σ) (!σ)).Nodup := by
  rw [List.Nodup, List.pairwise_iff_getElem]
  intro a
  induction a with
  | zero =>
    intro b ha hb hab e
    obtain ⟨a1, a2⟩ := wk_mid hpq hne 0 ha
    obtain ⟨b1, b2⟩ := wk_mid hpq hne b hb
    rw [← e, a2, if_pos rfl] at b2
    have hpar : b % 2 = 0 := by
      by_cases hh : b % 2 = 0
      · exact hh
      · rw [if_neg hh] at b2; exact absurd b2 hne
    obtain ⟨t, rfl⟩ : ∃ t, b = t + 1 := ⟨b - 1, by omega⟩
    have he := wk_end t hb
    have hal : alt (!σ) t = σ := by unfold alt; rw [if_neg (by omega), Bool.not_not]
    rw [hal] at he
    obtain ⟨t1, t2⟩ := wk_mid (S := S) (r := r) (v0 := v0) (σ := σ) hpq hne t (by omega)
    rw [if_neg (by omega)] at t2
    have hv : endS S (walkL S p q r (carriedAt S m0 v0 σ) (!σ))[0] σ = v0 := (carriedAt_some (walkL_zero ha carriedAt_rng.1).symm).2.2
    exact carriedAt_none f1 t1 t2 (by rw [← he, ← e]; exact hv)
  | succ a ih =>
    intro b ha hb hab e
    obtain ⟨a1, a2⟩ := wk_mid hpq hne (a + 1) ha
    obtain ⟨b1, b2⟩ := wk_mid hpq hne b hb
    obtain ⟨t, rfl⟩ : ∃ t, b = t + 1 := ⟨b - 1, by omega⟩
    have hpar : a % 2 = t % 2 := by
      rw [← e, a2] at b2
      by_cases h2 : (a + 1) % 2 = 0
      · rw [if_pos h2] at b2
        by_cases h3 : (t + 1) % 2 = 0
        · omega
        · rw [if_neg h3] at b2; exact absurd b2 hne
      · rw [if_neg h2] at b2
        by_cases h3 : (t + 1) % 2 = 0
        · rw [if_pos h3] at b2; exact absurd b2.symm hne
        · omega
    have e1 := wk_end a ha
    have e2 := wk_end t hb
    have hal : alt (!σ) t = alt (!σ) a := by unfold alt; rw [hpar]
    rw [hal] at e2
    obtain ⟨c1, c2⟩ := wk_mid (S := S) (r := r) (v0 := v0) (σ := σ) hpq hne a (by omega)
    obtain ⟨d1, d2⟩ := wk_mid (S := S) (r := r) (v0 := v0) (σ := σ) hpq hne t (by omega)
    rw [← hpar] at d2
    refine ih t (by omega) (by omega) (by omega) (C _ _ c1 d1 (c2.trans d2.symm) (by rw [c2]; split <;> assumption) (alt (!σ) a) ?_)
    rw [← e1, ← e2, e]
theorem wk_len (C : Col S) (I : (S 0 47).toNat ≤ 18) (hpq : (p = m0 ∧ q = m1) ∨ (p = m1 ∧ q = m0)) (hne : m0 ≠ m1) (h0 : m0 ≠ -1) (h1 : m1 ≠ -1) (f1 : carriedAt S m1 v0 σ = -1) : (walkL S p q r (carriedAt S m0 v0 σ) (!σ)).length ≤ 18 :=
  Nat.le_trans (nodup_le _ _ (wk_nodup C hpq hne h0 h1 f1) (walkL_mem _ _ _ carriedAt_rng)) I
/-- who meets a call of the chain on the other middle is of the chain -/
theorem wk_closed (C : Col S) (I : (S 0 47).toNat ≤ 18) (hpq : (p = m0 ∧ q = m1) ∨ (p = m1 ∧ q = m0)) (hne : m0 ≠ m1) (h0 : m0 ≠ -1) (h1 : m1 ≠ -1) (f1 : carriedAt S m1 v0 σ = -1)
    {x y : Nat} {β : Bool} (hx : x ∈ walkL S p q 21 (carriedAt S m0 v0 σ) (!σ)) (hy : y < (S 0 47).toNat) (hm : S 51 y = oth S p q x) (he : endS S y β = endS S x β) : y ∈ walkL S p q 21 (carriedAt S m0 v0 σ) (!σ) := by
  have hlen := wk_len (r := 21) C I hpq hne h0 h1 f1
  obtain ⟨t, ht, rfl⟩ := List.getElem_of_mem hx
  obtain ⟨t1, t2⟩ := wk_mid hpq hne t ht
  have hom : oth S p q (walkL S p q 21 (carriedAt S m0 v0 σ) (!σ))[t] ≠ -1 := by
    by_cases h : t % 2 = 0
    · rw [if_pos h] at t2; rw [oth_0 hpq hne t2]; exact h1
    · rw [if_neg h] at t2; rw [oth_1 hpq hne t2]; exact h0
  by_cases hβ : β = alt (!σ) t
  · have hc := C.at (v := endS S (walkL S p q 21 (carriedAt S m0 v0 σ) (!σ))[t] β) hy hom hm he
    by_cases hn : t + 1 < (walkL S p q 21 (carriedAt S m0 v0 σ) (!σ)).length
    · have := walkL_next 21 _ _ t hn
      rw [← hβ] at this
      have e : ((walkL S p q 21 (carriedAt S m0 v0 σ) (!σ))[t + 1] : Int) = (y : Int) := this.trans hc
      have e2 : (walkL S p q 21 (carriedAt S m0 v0 σ) (!σ))[t + 1] = y := by omega
      rw [← e2]
      exact List.getElem_mem hn
    · have := walkL_last (S := S) (p := p) (q := q) 21 (carriedAt S m0 v0 σ) (!σ) t (by omega) (by omega)
      rw [← hβ] at this
      have e : (-1 : Int) = (y : Int) := this.symm.trans hc
      omega
  · have hβ' : β = !alt (!σ) t := by cases β <;> cases h : alt (!σ) t <;> simp [h] at hβ ⊢
    cases t with
    | zero =>
      have hb : β = σ := by rw [hβ']; show (!(if 0 % 2 = 0 then !σ else !!σ)) = σ; simp
      have hv : endS S (walkL S p q 21 (carriedAt S m0 v0 σ) (!σ))[0] σ = v0 := (carriedAt_some (walkL_zero ht carriedAt_rng.1).symm).2.2
      rw [if_pos rfl] at t2
      rw [oth_0 hpq hne t2] at hm
      exact (carriedAt_none f1 hy hm (by rw [hb, hv] at he; exact he)).elim
    | succ s =>
      have hb : β = alt (!σ) s := by rw [hβ', alt_succ', Bool.not_not]
      have h2 := wk_end s ht
      obtain ⟨s1, s2⟩ := wk_mid (S := S) (r := 21) (v0 := v0) (σ := σ) hpq hne s (by omega)
      have hso : S 51 (walkL S p q 21 (carriedAt S m0 v0 σ) (!σ))[s] = oth S p q (walkL S p q 21 (carriedAt S m0 v0 σ) (!σ))[s + 1] := by
        by_cases h : s % 2 = 0
        · rw [if_pos h] at s2; rw [if_neg (by omega)] at t2; rw [s2, oth_1 hpq hne t2]
        · rw [if_neg h] at s2; rw [if_pos (by omega)] at t2; rw [s2, oth_0 hpq hne t2]
      have := C y _ hy s1 (hm.trans hso.symm) (by rw [hm]; exact hom) β (by rw [he, hb]; exact h2)
      rw [this]
      exact List.getElem_mem _
/-- what a swap makes of the exchange -/
theorem wk_swap (C : Col S) (I : (S 0 47).toNat ≤ 18) (hpq : (p = m0 ∧ q = m1) ∨ (p = m1 ∧ q = m0)) (hne : m0 ≠ m1) (h0 : m0 ≠ -1) (h1 : m1 ≠ -1) (f1 : carriedAt S m1 v0 σ = -1) (f0 : carriedAt S m0 w0 (!σ) = -1)
    {S1 : St} (hS : ∀ x, S1 51 x = if x ∈ walkL S p q 21 (carriedAt S m0 v0 σ) (!σ) then oth S p q x else S 51 x) (hn : S1 0 47 = S 0 47) (he : ∀ x b, endS S1 x b = endS S x b) :
    Col S1 ∧ carriedAt S1 m0 v0 σ = -1 ∧ carriedAt S1 m0 w0 (!σ) = -1 := by
  have mids : ∀ x ∈ walkL S p q 21 (carriedAt S m0 v0 σ) (!σ), x < (S 0 47).toNat ∧ ((S 51 x = m0 ∧ oth S p q x = m1) ∨ (S 51 x = m1 ∧ oth S p q x = m0)) := by
    intro x hx
    obtain ⟨t, ht, rfl⟩ := List.getElem_of_mem hx
    obtain ⟨t1, t2⟩ := wk_mid hpq hne t ht
    by_cases h : t % 2 = 0
    · rw [if_pos h] at t2; exact ⟨t1, Or.inl ⟨t2, oth_0 hpq hne t2⟩⟩
    · rw [if_neg h] at t2; exact ⟨t1, Or.inr ⟨t2, oth_1 hpq hne t2⟩⟩
  have hlen := wk_len (r := 21) C I hpq hne h0 h1 f1
  refine ⟨?_, ?_, ?_⟩
  · intro c c' hc hc' hm hm1 b hb
    rw [hn] at hc hc'
    rw [he, he] at hb
    rw [hS, hS] at hm
    rw [hS] at hm1
    by_cases a : c ∈ walkL S p q 21 (carriedAt S m0 v0 σ) (!σ)
    · rw [if_pos a] at hm hm1
      by_cases a' : c' ∈ walkL S p q 21 (carriedAt S m0 v0 σ) (!σ)
      · rw [if_pos a'] at hm
        have x1 := (mids c a).2
        have x2 := (mids c' a').2
        refine C c c' hc hc' ?_ ?_ b hb
        · rcases x1 with ⟨y1, y2⟩ | ⟨y1, y2⟩ <;> rcases x2 with ⟨z1, z2⟩ | ⟨z1, z2⟩
          · rw [y1, z1]
          · rw [y2, z2] at hm; exact absurd hm.symm hne
          · rw [y2, z2] at hm; exact absurd hm hne
          · rw [y1, z1]
        · rcases x1 with ⟨y1, y2⟩ | ⟨y1, y2⟩ <;> rw [y1] <;> assumption
      · rw [if_neg a'] at hm
        exact absurd (wk_closed C I hpq hne h0 h1 f1 a hc' hm.symm hb.symm) a'
    · rw [if_neg a] at hm hm1
      by_cases a' : c' ∈ walkL S p q 21 (carriedAt S m0 v0 σ) (!σ)
      · rw [if_pos a'] at hm
        exact absurd (wk_closed C I hpq hne h0 h1 f1 a' hc hm hb) a
      · rw [if_neg a'] at hm
        exact C c c' hc hc' hm hm1 b hb
  · refine carriedAt_of (fun x hx hm hv => ?_)
    rw [hn] at hx
    rw [he] at hv
    rw [hS] at hm
    by_cases a : x ∈ walkL S p q 21 (carriedAt S m0 v0 σ) (!σ)
    · rw [if_pos a] at hm
      rcases (mids x a).2 with ⟨y1, y2⟩ | ⟨y1, y2⟩
      · rw [y2] at hm; exact hne hm.symm
      · exact carriedAt_none f1 hx y1 hv
    · rw [if_neg a] at hm
      have hc := C.at hx h0 hm hv
      refine a ?_
      rw [hc]
      have : walkL S p q 21 (x : Int) (!σ) = (x : Int).toNat :: walkL S p q 20 (carriedAt S (if S 51 (x : Int).toNat = p then q else p) (endS S (x : Int).toNat (!σ)) (!σ)) (!!σ) := by
        rw [show (21 : Nat) = 20 + 1 from rfl, walkL]
        rw [if_neg (by omega)]
      rw [this]
      exact List.mem_cons_self
  · refine carriedAt_of (fun x hx hm hv => ?_)
    rw [hn] at hx
    rw [he] at hv
    rw [hS] at hm
    by_cases a : x ∈ walkL S p q 21 (carriedAt S m0 v0 σ) (!σ)
    · rw [if_pos a] at hm
      obtain ⟨t, ht, rfl⟩ := List.getElem_of_mem a
      obtain ⟨t1, t2⟩ := wk_mid hpq hne t ht
      by_cases h : t % 2 = 0
      · rw [if_pos h] at t2
        rw [oth_0 hpq hne t2] at hm
        exact hne hm.symm
      · obtain ⟨s, rfl⟩ : ∃ s, t = s + 1 := ⟨t - 1, by omega⟩
        have h2 := wk_end s ht
        have hal : alt (!σ) s = !σ := by unfold alt; rw [if_pos (by omega)]
        rw [hal] at h2
        obtain ⟨s1, s2⟩ := wk_mid (S := S) (r := 21) (v0 := v0) (σ := σ) hpq hne s (by omega)
        rw [if_pos (by omega)] at s2
        exact carriedAt_none f0 s1 s2 (h2.symm.trans hv)
    · rw [if_neg a] at hm
      exact carriedAt_none f0 hx hm hv
end WALKS
theorem flipL_51 {p q : Int} {b : Bool} : ∀ (l : List Nat) (S : St) (x : Nat), l.Nodup → flipL p q b l S 51 x = if x ∈ l then oth S p q x else S 51 x := by
  intro l
  induction l with
  | nil => intro S x _; simp [flipL]
  | cons c l ih =>
    intro S x hl
    have hc := (List.nodup_cons.mp hl).1
    simp only [flipL]
    rw [ih _ x (List.nodup_cons.mp hl).2]
    have e : ∀ y, up2 (up2 S 51 c (if S 51 c = p then q else p)) 54 c (S 54 c + b2i b) 51 y = if y = c then oth S p q c else S 51 y := by
      intro y
      rw [up2_ne (Or.inl (by decide))]
      by_cases hy : y = c
      · subst hy; rw [up2_at, if_pos rfl]; rfl
      · rw [up2_ne (Or.inr hy), if_neg hy]
    by_cases hx : x = c
    · subst hx
      rw [if_neg hc, e, if_pos rfl, if_pos List.mem_cons_self]
    · rw [e, if_neg hx]
      by_cases hm : x ∈ l
      · rw [if_pos hm, if_pos (List.mem_cons_of_mem _ hm)]
        unfold oth
        rw [e, if_neg hx]
      · rw [if_neg hm, if_neg (by rw [List.mem_cons]; exact fun h => h.elim hx hm)]
