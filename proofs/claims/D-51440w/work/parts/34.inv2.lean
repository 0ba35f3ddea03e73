/-! THE PURE PICTURE, 3: the invariant, and what keeps it -/
/-- p and q are not the same middle -/
theorem ne_of_noOpen {S : St} {i j low p q : Int} (N : NoOpen S i j low) (hp : 0 ≤ p ∧ p < S 0 40) (h1 : isThereB S p low = true) (h2 : carriedAt S p i false = -1) (h4 : carriedAt S q j true = -1) : p ≠ q := by
  intro e
  subst e
  have := N p hp.1 hp.2
  unfold isOpenB at this
  rw [h1, h2, h4] at this
  exact absurd this (by decide)
theorem walk_all {S : St} (I : Rg S) (C : Col S) : WalkAll S := by
  obtain ⟨⟨i38, i39, i40, i41, i42, i43, i44, i45, i46, i47, i55, i60⟩, irow, iwait, igrp⟩ := id I
  intro i j low N p q b p0 p1 q0 q1 h1 h2 h3 h4
  have hpq := ne_of_noOpen N ⟨p0, p1⟩ h1 h2 h4
  have open1 : carriedAt S p j true ≠ -1 := fun e => by
    have := N p p0 p1
    unfold isOpenB at this
    rw [h1, h2, e] at this
    exact absurd this (by decide)
  have open2 : carriedAt S q i false ≠ -1 := fun e => by
    have := N q q0 q1
    unfold isOpenB at this
    rw [h3, h4, e] at this
    exact absurd this (by decide)
  have pos : ∀ (c : Int) (g : Bool), c ≠ -1 → 0 < (walkL S p q 21 c g).length := fun c g hc => by
    rw [show (21 : Nat) = 20 + 1 from rfl, walkL, if_neg hc]
    simp
  cases b with
  | true => exact ⟨pos _ _ open1, Nat.le_trans (wk_len (m0 := p) (m1 := q) (v0 := j) (σ := true) C (by omega) (Or.inl ⟨rfl, rfl⟩) hpq (by omega) (by omega) h4) (by decide)⟩
  | false => exact ⟨pos _ _ open2, Nat.le_trans (wk_len (m0 := q) (m1 := p) (v0 := i) (σ := false) C (by omega) (Or.inr ⟨rfl, rfl⟩) hpq.symm (by omega) (by omega) h2) (by decide)⟩
theorem tookS_51 {S : St} {c : Ch} {b : Bool} (h : c.1.Nodup) (x : Nat) : tookS S c b 51 x = if x ∈ c.1 then oth S c.2.1 c.2.2.1 x else S 51 x := by
  unfold tookS
  rw [up2_ne (Or.inl (by decide)), up2_ne (Or.inl (by decide)), flipL_51 _ _ _ h]
theorem tookS_off {S : St} {c : Ch} {b : Bool} {f x : Nat} (h1 : f ≠ 51) (h2 : f ≠ 54) (h3 : f ≠ 65) : tookS S c b f x = S f x := by
  unfold tookS
  rw [up2_ne (Or.inl h3), up2_ne (Or.inl h3), flipL_off h1 h2]
theorem tookS_end {S : St} {c : Ch} {b : Bool} (x : Nat) (g : Bool) : endS (tookS S c b) x g = endS S x g := by
  unfold endS fromS toS
  rw [tookS_off (by decide) (by decide) (by decide), tookS_off (by decide) (by decide) (by decide), tookS_off (by decide) (by decide) (by decide)]
/-- a chain makes room -/
theorem took_ok {S : St} (I : Rg S) (C : Col S) {i j low : Int} (N : NoOpen S i j low) {c : Ch} (g : ChGood S i j low c) (b : Bool) :
    c.1.Nodup ∧ Col (tookS S c b) ∧ carriedAt (tookS S c b) (chMid c) i false = -1 ∧ carriedAt (tookS S c b) (chMid c) j true = -1 := by
  obtain ⟨⟨i38, i39, i40, i41, i42, i43, i44, i45, i46, i47, i55, i60⟩, irow, iwait, igrp⟩ := id I
  obtain ⟨l, p, q, f⟩ := c
  obtain ⟨hp, hq, h1, h2, h3, h4, hw⟩ := g
  simp only at hp hq h1 h2 h3 h4 hw
  have hpq := ne_of_noOpen N hp h1 h2 h4
  cases f with
  | true =>
    have e : l = walkL S p q 21 (carriedAt S p j true) (!true) := hw
    subst e
    have nd := wk_nodup (r := 21) (m0 := p) (m1 := q) (v0 := j) (σ := true) C (Or.inl ⟨rfl, rfl⟩) hpq (by omega) (by omega) h4
    obtain ⟨k1, k2, k3⟩ := wk_swap (m0 := p) (m1 := q) (v0 := j) (w0 := i) (σ := true) C (by omega) (Or.inl ⟨rfl, rfl⟩) hpq (by omega) (by omega) h4 h2 (tookS_51 (S := S) (c := (walkL S p q 21 (carriedAt S p j true) (!true), p, q, true)) (b := b) nd) (tookS_off (by decide) (by decide) (by decide)) (fun x g => tookS_end x g)
    exact ⟨nd, k1, k3, k2⟩
  | false =>
    have e : l = walkL S p q 21 (carriedAt S q i false) (!false) := hw
    subst e
    have nd := wk_nodup (r := 21) (m0 := q) (m1 := p) (v0 := i) (σ := false) C (Or.inr ⟨rfl, rfl⟩) hpq.symm (by omega) (by omega) h2
    obtain ⟨k1, k2, k3⟩ := wk_swap (m0 := q) (m1 := p) (v0 := i) (w0 := j) (σ := false) C (by omega) (Or.inr ⟨rfl, rfl⟩) hpq.symm (by omega) (by omega) h2 h4 (tookS_51 (S := S) (c := (walkL S p q 21 (carriedAt S q i false) (!false), p, q, false)) (b := b) nd) (tookS_off (by decide) (by decide) (by decide)) (fun x g => tookS_end x g)
    exact ⟨nd, k1, k2, k3⟩
/-- what is kept from operation to operation, beside the ranges -/
def Rel (S : St) : Prop :=
  Col S ∧
  (∀ c : Nat, c < (S 0 47).toNat → S 51 c = -1 ∨ (0 ≤ S 51 c ∧ S 51 c < S 0 40 ∧ isCutB S (S 51 c) = false)) ∧
  (∀ c c' : Nat, c < c' → c' < (S 0 47).toNat → S 48 c < S 48 c') ∧ (∀ c : Nat, c < (S 0 47).toNat → S 48 c < S 0 46) ∧
  (∀ c : Nat, c < (S 0 47).toNat → S 49 c < S 0 38 * S 0 39 ∧ S 50 c < S 0 38 * S 0 39) ∧
  (∀ c c' : Nat, c < (S 0 47).toNat → c' < (S 0 47).toNat → S 49 c ≠ S 50 c') ∧
  (∀ c c' : Nat, c < (S 0 47).toNat → c' < (S 0 47).toNat → c ≠ c' → S 49 c ≠ S 49 c' ∧ S 50 c ≠ S 50 c') ∧
  (∀ w : Nat, w < (S 0 55).toNat → S 56 w < S 0 38 * S 0 39 ∧ callWith S (S 56 w) = -1) ∧
  (∀ w w' : Nat, w < (S 0 55).toNat → w' < (S 0 55).toNat → w ≠ w' → S 56 w ≠ S 56 w') ∧
  S 0 45 < S 0 40 ∧
  (∀ g k : Nat, g < (S 0 60).toNat → k < (S 63 g).toNat → S 64 (8 * g + k) < S 0 38 * S 0 39) ∧
  ∀ g g' : Nat, g < g' → g' < (S 0 60).toNat → S 61 g = S 61 g' → (∀ i : Nat, i < (S 61 g).toNat → S 62 (6 * g + i) = S 62 (6 * g' + i)) → False
def Inv (S : St) : Prop := Rg S ∧ Rel S
/-- moved and accounts do not matter -/
def nrm (S : St) : St := fun f c => if f = 54 ∨ f = 65 then 0 else S f c
theorem Inv_nrm {S : St} : Inv (nrm S) = Inv S := rfl
theorem Inv.ext {S S' : St} (h : Inv S) (e : ∀ f c, f ≠ 54 → f ≠ 65 → S' f c = S f c) : Inv S' := by
  have : nrm S' = nrm S := by
    funext f c
    unfold nrm
    split
    · rfl
    · rename_i hh; exact e f c (fun q => hh (Or.inl q)) (fun q => hh (Or.inr q))
  rw [← Inv_nrm, this, Inv_nrm]
  exact h
theorem Inv.acc {S : St} (h : Inv S) (k : Nat) (v : Int) : Inv (addAcc S k v) := h.ext (fun f c _ h2 => up2_ne (Or.inl h2))
theorem Inv.rg {S : St} (h : Inv S) : Rg S := h.1
theorem Inv.walk {S : St} (h : Inv S) : WalkAll S := walk_all h.1 h.2.1
theorem huntL_open {S : St} {i j rule low : Int} : ∀ (r k : Nat) (best : Int), (best = -1 ∨ isOpenB S best i j low = true) → huntL S i j rule low r k best = -1 ∨ isOpenB S (huntL S i j rule low r k best) i j low = true := by
  intro r
  induction r with
  | zero => intro k best h; exact h
  | succ r ih =>
    intro k best h
    simp only [huntL]
    refine ih (k + 1) _ ?_
    split
    · rename_i hh
      simp only [Bool.and_eq_true] at hh
      exact Or.inr hh.1
    · exact h
theorem hunted_open {S : St} {i j rule low : Int} (h : hunted S i j rule low ≠ -1) : isOpenB S (hunted S i j rule low) i j low = true :=
  (huntL_open _ _ _ (Or.inl rfl)).resolve_left h
theorem open_iff {S : St} {k i j low : Int} : isOpenB S k i j low = true ↔ isThereB S k low = true ∧ carriedAt S k i false = -1 ∧ carriedAt S k j true = -1 := by
  unfold isOpenB
  simp only [Bool.and_eq_true, decide_eq_true_eq]
theorem there_cut {S : St} {k low : Int} (h : isThereB S k low = true) : isCutB S k = false := by
  unfold isThereB at h
  simp only [Bool.and_eq_true, Bool.not_eq_true'] at h
  exact h.1
/-- other middles -/
def withMid (S : St) (T : Nat → Int) : St := fun f c => if f = 54 ∨ f = 65 then 0 else if f = 51 then T c else S f c
theorem Inv.mid {S : St} (h : Inv S) {T : Nat → Int} (hr : ∀ c : Nat, c < (S 0 47).toNat → -1 ≤ T c ∧ T c < 9) (hc : Col (withMid S T))
    (h1 : ∀ c : Nat, c < (S 0 47).toNat → T c = -1 ∨ (0 ≤ T c ∧ T c < S 0 40 ∧ isCutB S (T c) = false)) : Inv (withMid S T) :=
  ⟨⟨h.1.1, fun c hc => ⟨(h.1.2.1 c hc).1, (h.1.2.1 c hc).2.1, (h.1.2.1 c hc).2.2.1, hr c hc, (h.1.2.1 c hc).2.2.2.2⟩, h.1.2.2.1, h.1.2.2.2⟩, hc, h1, h.2.2.2⟩
theorem Inv.mid' {S S' : St} (h : Inv S) (e : ∀ f c, f ≠ 51 → f ≠ 54 → f ≠ 65 → S' f c = S f c) (hr : ∀ c : Nat, c < (S 0 47).toNat → -1 ≤ S' 51 c ∧ S' 51 c < 9) (hc : Col S')
    (h1 : ∀ c : Nat, c < (S 0 47).toNat → S' 51 c = -1 ∨ (0 ≤ S' 51 c ∧ S' 51 c < S 0 40 ∧ isCutB S (S' 51 c) = false)) : Inv S' := by
  have en : nrm S' = withMid S (S' 51) := by
    funext f c
    unfold nrm withMid
    split
    · rfl
    · rename_i hh
      split
      · rename_i h2; rw [h2]
      · rename_i h2; exact e f c h2 (fun q => hh (Or.inl q)) (fun q => hh (Or.inr q))
  have hc2 : Col (withMid S (S' 51)) := by rw [← en]; exact hc
  rw [← Inv_nrm, en]
  exact h.mid hr hc2 h1
theorem Inv.took {S : St} (V : Inv S) {i j low : Int} (N : NoOpen S i j low) {c : Ch} (g : ChGood S i j low c) (b : Bool) : Inv (tookS S c b) ∧ (∀ x, tookS S c b 51 x = -1 ↔ S 51 x = -1) := by
  have I := V.1
  obtain ⟨⟨i38, i39, i40, i41, i42, i43, i44, i45, i46, i47, i55, i60⟩, irow, iwait, igrp⟩ := id I
  obtain ⟨nd, k1, k2, k3⟩ := took_ok V.1 V.2.1 N g b
  obtain ⟨hp, hq, h1, h2, h3, h4, hw⟩ := g
  have hpq := ne_of_noOpen N hp h1 h2 h4
  have hmem : ∀ x ∈ c.1, x < (S 0 47).toNat ∧ (S 51 x = c.2.1 ∨ S 51 x = c.2.2.1) := by
    intro x hx
    rw [hw] at hx
    obtain ⟨t, ht, rfl⟩ := List.getElem_of_mem hx
    obtain ⟨l, p, q, f⟩ := c
    simp only at hp hq h1 h2 h3 h4 hpq ht ⊢
    cases f with
    | true =>
      have := wk_mid (S := S) (p := p) (q := q) (r := 21) (m0 := p) (m1 := q) (v0 := j) (σ := true) (Or.inl ⟨rfl, rfl⟩) hpq t ht
      refine ⟨this.1, ?_⟩
      by_cases hh : t % 2 = 0
      · exact Or.inl (this.2.trans (if_pos hh))
      · exact Or.inr (this.2.trans (if_neg hh))
    | false =>
      have := wk_mid (S := S) (p := p) (q := q) (r := 21) (m0 := q) (m1 := p) (v0 := i) (σ := false) (Or.inr ⟨rfl, rfl⟩) hpq.symm t ht
      refine ⟨this.1, ?_⟩
      by_cases hh : t % 2 = 0
      · exact Or.inr (this.2.trans (if_pos hh))
      · exact Or.inl (this.2.trans (if_neg hh))
  have ho : ∀ x ∈ c.1, oth S c.2.1 c.2.2.1 x = c.2.1 ∨ oth S c.2.1 c.2.2.1 x = c.2.2.1 := fun x _ => by unfold oth; split <;> simp
  refine ⟨V.mid' (fun f c h1 h2 h3 => tookS_off h1 h2 h3) (fun x hx => ?_) k1 (fun x hx => ?_), fun x => ?_⟩
  · rw [tookS_51 nd]
    split
    · rename_i hm
      rcases ho x hm with e | e <;> rw [e] <;> omega
    · obtain ⟨-, -, -, r51, -⟩ := irow x hx
      exact r51
  · rw [tookS_51 nd]
    split
    · rename_i hm
      rcases ho x hm with e | e <;> rw [e]
      · exact Or.inr ⟨hp.1, hp.2, there_cut h1⟩
      · exact Or.inr ⟨hq.1, hq.2, there_cut h3⟩
    · exact V.2.2.1 x hx
  · rw [tookS_51 nd]
    split
    · rename_i hm
      have := (hmem x hm).2
      rcases ho x hm with e | e <;> rw [e] <;> constructor <;> intro z <;> omega
    · exact Iff.rfl
theorem there_iff {S : St} {k low : Int} : isThereB S k low = true ↔ isCutB S k = false ∧ sumI (fun k => b2i (!isCutB S k)) k.toNat 0 < low := by
  unfold isThereB
  simp only [Bool.and_eq_true, Bool.not_eq_true', decide_eq_true_eq]
theorem route_ok {S : St} (V : Inv S) {i j rule low : Int} {chains counts : Bool} :
    Inv (route S i j rule chains low counts).2 ∧ (∀ f c, f ≠ 51 → f ≠ 54 → f ≠ 65 → (route S i j rule chains low counts).2 f c = S f c) ∧ (∀ x, (route S i j rule chains low counts).2 51 x = -1 ↔ S 51 x = -1) ∧
    (((route S i j rule chains low counts).1 = -1 ∧ (route S i j rule chains low counts).2 = S) ∨ (0 ≤ (route S i j rule chains low counts).1 ∧ (route S i j rule chains low counts).1 < S 0 40 ∧ isThereB S (route S i j rule chains low counts).1 low = true ∧
      carriedAt (route S i j rule chains low counts).2 (route S i j rule chains low counts).1 i false = -1 ∧ carriedAt (route S i j rule chains low counts).2 (route S i j rule chains low counts).1 j true = -1)) := by
  have hr := hunted_rng V.1 (i := i) (j := j) (rule := rule) (low := low)
  by_cases h : hunted S i j rule low = -1 ∧ chains = true
  · have e : route S i j rule chains low counts = (match chain S i j low with | none => (-1, S) | some c => (chMid c, tookS S c counts)) := if_pos h
    rw [e]
    cases hch : chain S i j low with
    | none => exact ⟨V, fun _ _ _ _ _ => rfl, fun _ => Iff.rfl, Or.inl ⟨rfl, rfl⟩⟩
    | some c =>
      have g := chain_good hch
      have N := hunted_none V.1 h.1
      obtain ⟨a1, a2⟩ := V.took N g counts
      obtain ⟨-, -, k2, k3⟩ := took_ok V.1 V.2.1 N g counts
      obtain ⟨hp, hq, h1, h2, h3, h4, hw⟩ := g
      refine ⟨a1, fun f c h1 h2 h3 => tookS_off h1 h2 h3, a2, Or.inr ⟨?_, ?_, ?_, k2, k3⟩⟩
      · show 0 ≤ chMid c
        unfold chMid; split <;> omega
      · show chMid c < S 0 40
        unfold chMid; split <;> omega
      · show isThereB S (chMid c) low = true
        unfold chMid; split <;> assumption
  · have e : route S i j rule chains low counts = (hunted S i j rule low, S) := if_neg h
    rw [e]
    refine ⟨V, fun _ _ _ _ _ => rfl, fun _ => Iff.rfl, ?_⟩
    by_cases h2 : hunted S i j rule low = -1
    · exact Or.inl ⟨h2, rfl⟩
    · obtain ⟨g1, g2, g3⟩ := open_iff.mp (hunted_open h2)
      exact Or.inr ⟨by show 0 ≤ hunted S i j rule low; omega, by show hunted S i j rule low < _; omega, g1, g2, g3⟩
theorem map_nodup {N : Nat} {a : Nat → Int} (h : ∀ c : Nat, c < N → 0 ≤ a c) (h2 : ∀ c c' : Nat, c < N → c' < N → c ≠ c' → a c ≠ a c') : ((List.range N).map (fun c => (a c).toNat)).Nodup := by
  rw [List.Nodup, List.pairwise_map, List.pairwise_iff_getElem]
  intro x y hx hy hxy
  rw [List.length_range] at hx hy
  rw [List.getElem_range, List.getElem_range]
  have := h2 x y hx hy (by omega)
  have := h x hx
  have := h y hy
  omega
theorem pig {N L : Nat} {a b : Nat → Int} (h : ∀ c : Nat, c < N → (0 ≤ a c ∧ a c < L) ∧ (0 ≤ b c ∧ b c < L)) (h1 : ∀ c c' : Nat, c < N → c' < N → a c ≠ b c') (h2 : ∀ c c' : Nat, c < N → c' < N → c ≠ c' → a c ≠ a c' ∧ b c ≠ b c') : 2 * N ≤ L := by
  have := nodup_le L ((List.range N).map (fun c => (a c).toNat) ++ (List.range N).map (fun c => (b c).toNat)) (by
    rw [List.nodup_append]
    refine ⟨map_nodup (fun c hc => (h c hc).1.1) (fun c c' hc hc' e => (h2 c c' hc hc' e).1), map_nodup (fun c hc => (h c hc).2.1) (fun c c' hc hc' e => (h2 c c' hc hc' e).2), ?_⟩
    intro x hx y hy
    obtain ⟨c, hc, rfl⟩ := List.mem_map.mp hx
    obtain ⟨c', hc', rfl⟩ := List.mem_map.mp hy
    rw [List.mem_range] at hc hc'
    have := h1 c c' hc hc'
    have := (h c hc).1.1
    have := (h c' hc').2.1
    omega) (by
    intro x hx
    rcases List.mem_append.mp hx with hx | hx
    · obtain ⟨c, hc, rfl⟩ := List.mem_map.mp hx
      rw [List.mem_range] at hc
      have := (h c hc).1
      omega
    · obtain ⟨c, hc, rfl⟩ := List.mem_map.mp hx
      rw [List.mem_range] at hc
      have := (h c hc).2
      omega)
  rw [List.length_append, List.length_map, List.length_map, List.length_range] at this
  omega
theorem sub36 {S : St} (I : Rg S) : 0 ≤ S 0 38 * S 0 39 ∧ S 0 38 * S 0 39 ≤ 36 := by
  obtain ⟨⟨i38, i39, i40, i41, i42, i43, i44, i45, i46, i47, i55, i60⟩, irow, iwait, igrp⟩ := id I
  have h1 : S 0 38 * S 0 39 ≤ 6 * 6 := Int.mul_le_mul i38.2 i39.2 (by omega) (by omega)
  have h2 : 0 ≤ S 0 38 * S 0 39 := Int.mul_nonneg (by omega) (by omega)
  omega
theorem addRow_0 {S : St} {fr to last m : Int} {k : Nat} (h1 : k ≠ 45) (h2 : k ≠ 46) (h3 : k ≠ 47) : addRow S fr to last m 0 k = S 0 k := by
  unfold addRow
  rw [up2_ne (Or.inr h2), up2_ne (Or.inr h3), up2_ne (Or.inl (by decide)), up2_ne (Or.inl (by decide)), up2_ne (Or.inl (by decide)), up2_ne (Or.inl (by decide)), up2_ne (Or.inl (by decide)), up2_ne (Or.inl (by decide)), up2_ne (Or.inl (by decide)), up2_ne (Or.inr h1)]
theorem addRow_45 {S : St} {fr to last m : Int} : addRow S fr to last m 0 45 = m := by
  unfold addRow
  rw [up2_ne (Or.inr (by decide)), up2_ne (Or.inr (by decide)), up2_ne (Or.inl (by decide)), up2_ne (Or.inl (by decide)), up2_ne (Or.inl (by decide)), up2_ne (Or.inl (by decide)), up2_ne (Or.inl (by decide)), up2_ne (Or.inl (by decide)), up2_ne (Or.inl (by decide)), up2_at]
theorem addRow_46 {S : St} {fr to last m : Int} : addRow S fr to last m 0 46 = S 0 46 + 1 := by
  unfold addRow
  rw [up2_at]
theorem addRow_47 {S : St} {fr to last m : Int} : addRow S fr to last m 0 47 = S 0 47 + 1 := by
  unfold addRow
  rw [up2_ne (Or.inr (by decide)), up2_at]
theorem addRow_off {S : St} {fr to last m : Int} {f c : Nat} (h0 : f ≠ 0) (h : c ≠ (S 0 47).toNat ∨ f < 48 ∨ 54 < f) : addRow S fr to last m f c = S f c := by
  unfold addRow
  rw [up2_ne (Or.inl h0), up2_ne (Or.inl h0), up2_ne (by omega), up2_ne (by omega), up2_ne (by omega), up2_ne (by omega), up2_ne (by omega), up2_ne (by omega), up2_ne (by omega), up2_ne (Or.inl h0)]
theorem addRow_at {S : St} {fr to last m : Int} : addRow S fr to last m 48 (S 0 47).toNat = S 0 46 ∧ addRow S fr to last m 49 (S 0 47).toNat = fr ∧ addRow S fr to last m 50 (S 0 47).toNat = to ∧ addRow S fr to last m 51 (S 0 47).toNat = m ∧ addRow S fr to last m 52 (S 0 47).toNat = S 0 44 ∧ addRow S fr to last m 53 (S 0 47).toNat = last ∧ addRow S fr to last m 54 (S 0 47).toNat = 0 := by
  refine ⟨?_, ?_, ?_, ?_, ?_, ?_, ?_⟩ <;> (unfold addRow; simp [up2])
theorem callWith_congr {S S' : St} {s : Int} (h0 : S' 0 47 = S 0 47) (h1 : ∀ c : Nat, c < (S 0 47).toNat → S' 49 c = S 49 c ∧ S' 50 c = S 50 c) : callWith S' s = callWith S s := by
  unfold callWith
  rw [h0]
  refine fnd_congr _ _ (fun x _ hx => ?_)
  rw [(h1 x (by omega)).1, (h1 x (by omega)).2]
/-- a new row -/
theorem Inv.add {S : St} (V : Inv S) {fr to last m : Int} (hfr : 0 ≤ fr ∧ fr < S 0 38 * S 0 39) (hto : 0 ≤ to ∧ to < S 0 38 * S 0 39) (hne : fr ≠ to) (ifr : callWith S fr = -1) (ito : callWith S to = -1) (wfr : waitAt S fr = -1) (wto : waitAt S to = -1)
    (hl : 0 ≤ last ∧ last ≤ 99) (hm : 0 ≤ m ∧ m < S 0 40) (hc : isCutB S m = false) (hb : S 0 46 < 200) (f1 : carriedAt S m (fr.tdiv (S 0 39)) false = -1) (f2 : carriedAt S m (to.tdiv (S 0 39)) true = -1) : Inv (addRow S fr to last m) := by
  have I := V.1
  obtain ⟨⟨i38, i39, i40, i41, i42, i43, i44, i45, i46, i47, i55, i60⟩, irow, iwait, igrp⟩ := id I
  obtain ⟨C, r1, r2, r3, r4, r5, r6, r7, r8, r9, r10, r11⟩ := id V.2
  have s36 := sub36 I
  obtain ⟨a48, a49, a50, a51, a52, a53, a54⟩ := addRow_at (S := S) (fr := fr) (to := to) (last := last) (m := m)
  have hn : (addRow S fr to last m 0 47).toNat = (S 0 47).toNat + 1 := by rw [addRow_47]; omega
  have old : ∀ f c : Nat, f ≠ 0 → c < (S 0 47).toNat → addRow S fr to last m f c = S f c := fun f c h0 hc => addRow_off h0 (Or.inl (by omega))
  have hi : ∀ f c : Nat, 55 ≤ f → addRow S fr to last m f c = S f c := fun f c hf => addRow_off (by omega) (Or.inr (Or.inr (by omega)))
  have e38 : addRow S fr to last m 0 38 = S 0 38 := addRow_0 (by decide) (by decide) (by decide)
  have e39 : addRow S fr to last m 0 39 = S 0 39 := addRow_0 (by decide) (by decide) (by decide)
  have e40 : addRow S fr to last m 0 40 = S 0 40 := addRow_0 (by decide) (by decide) (by decide)
  have e41 : addRow S fr to last m 0 41 = S 0 41 := addRow_0 (by decide) (by decide) (by decide)
  have e42 : addRow S fr to last m 0 42 = S 0 42 := addRow_0 (by decide) (by decide) (by decide)
  have e43 : addRow S fr to last m 0 43 = S 0 43 := addRow_0 (by decide) (by decide) (by decide)
  have e44 : addRow S fr to last m 0 44 = S 0 44 := addRow_0 (by decide) (by decide) (by decide)
  have e55 : addRow S fr to last m 0 55 = S 0 55 := addRow_0 (by decide) (by decide) (by decide)
  have e60 : addRow S fr to last m 0 60 = S 0 60 := addRow_0 (by decide) (by decide) (by decide)
  have cut : ∀ k, isCutB (addRow S fr to last m) k = isCutB S k := fun k => by unfold isCutB; rw [e41]
  have eend : ∀ (c : Nat) (b : Bool), c < (S 0 47).toNat → endS (addRow S fr to last m) c b = endS S c b := fun c b hc => by
    unfold endS fromS toS
    rw [old 49 c (by decide) hc, old 50 c (by decide) hc, e39]
  have nend : ∀ b : Bool, endS (addRow S fr to last m) (S 0 47).toNat b = if b = true then to.tdiv (S 0 39) else fr.tdiv (S 0 39) := fun b => by
    unfold endS fromS toS
    rw [a49, a50, e39]
  have lt_or : ∀ c : Nat, c < (addRow S fr to last m 0 47).toNat → c < (S 0 47).toNat ∨ c = (S 0 47).toNat := fun c hc => by rw [hn] at hc; omega
  have d5 : ∀ c c' : Nat, c < (addRow S fr to last m 0 47).toNat → c' < (addRow S fr to last m 0 47).toNat → addRow S fr to last m 49 c ≠ addRow S fr to last m 50 c' := by
    intro c c' hc hc'
    rcases lt_or c hc with h | rfl <;> rcases lt_or c' hc' with h' | rfl
    · rw [old _ _ (by decide) h, old _ _ (by decide) h']; exact r5 c c' h h'
    · rw [old _ _ (by decide) h, a50]; exact (callWith_none ito h).1
    · rw [old _ _ (by decide) h', a49]; exact (callWith_none ifr h').2.symm
    · rw [a49, a50]; exact hne
  have d6 : ∀ c c' : Nat, c < (addRow S fr to last m 0 47).toNat → c' < (addRow S fr to last m 0 47).toNat → c ≠ c' → addRow S fr to last m 49 c ≠ addRow S fr to last m 49 c' ∧ addRow S fr to last m 50 c ≠ addRow S fr to last m 50 c' := by
    intro c c' hc hc' hcc
    rcases lt_or c hc with h | rfl <;> rcases lt_or c' hc' with h' | rfl
    · rw [old _ _ (by decide) h, old _ _ (by decide) h', old _ _ (by decide) h, old _ _ (by decide) h']; exact r6 c c' h h' hcc
    · rw [old _ _ (by decide) h, a49, old _ _ (by decide) h, a50]; exact ⟨(callWith_none ifr h).1, (callWith_none ito h).2⟩
    · rw [old _ _ (by decide) h', a49, old _ _ (by decide) h', a50]; exact ⟨(callWith_none ifr h').1.symm, (callWith_none ito h').2.symm⟩
    · exact absurd rfl hcc
  have rows : ∀ c : Nat, c < (addRow S fr to last m 0 47).toNat → RowR (addRow S fr to last m) c := by
    intro c hc
    unfold RowR
    rcases lt_or c hc with h | rfl
    · rw [old _ _ (by decide) h, old _ _ (by decide) h, old _ _ (by decide) h, old _ _ (by decide) h, old _ _ (by decide) h, old _ _ (by decide) h]
      exact irow c h
    · rw [a48, a49, a50, a51, a52, a53]
      omega
  have n18 := pig (N := (addRow S fr to last m 0 47).toNat) (L := 36) (a := addRow S fr to last m 49) (b := addRow S fr to last m 50) (fun c hc => by
    obtain ⟨-, h49, h50, -⟩ := rows c hc
    omega) d5 d6
  refine ⟨⟨?_, rows, ?_, ?_⟩, ?_, ?_, ?_, ?_, ?_, d5, d6, ?_, ?_, ?_, ?_, ?_⟩
  · rw [e38, e39, e40, e41, e42, e43, e44, e55, e60, addRow_45, addRow_46]
    rw [hn] at n18
    rw [addRow_47]
    omega
  · intro w hw
    unfold WaitR
    rw [e55] at hw
    rw [hi 56 _ (by decide), hi 57 _ (by decide), hi 58 _ (by decide), hi 59 _ (by decide), e60]
    exact iwait w hw
  · intro g hg
    rw [e60] at hg
    obtain ⟨g1, g2, g3, g4⟩ := igrp g hg
    unfold GrpR
    rw [hi _ _ (by decide), hi _ _ (by decide)]
    exact ⟨g1, fun i hi' => by rw [hi _ _ (by decide)]; exact g2 i hi', g3, fun k hk => by rw [hi _ _ (by decide)]; exact g4 k hk⟩
  · intro c c' hc hc' h51 hm1 b hbb
    rcases lt_or c hc with h | rfl <;> rcases lt_or c' hc' with h' | rfl
    · rw [old _ _ (by decide) h, old _ _ (by decide) h'] at h51
      rw [old _ _ (by decide) h] at hm1
      rw [eend _ _ h, eend _ _ h'] at hbb
      exact C c c' h h' h51 hm1 b hbb
    · rw [old _ _ (by decide) h, a51] at h51
      rw [eend _ _ h, nend] at hbb
      cases b with
      | false => exact (carriedAt_none f1 h h51 hbb).elim
      | true => exact (carriedAt_none f2 h h51 hbb).elim
    · rw [old _ _ (by decide) h', a51] at h51
      rw [eend _ _ h', nend] at hbb
      cases b with
      | false => exact (carriedAt_none f1 h' h51.symm hbb.symm).elim
      | true => exact (carriedAt_none f2 h' h51.symm hbb.symm).elim
    · rfl
  · intro c hc'
    rw [e40]
    rcases lt_or c hc' with h | rfl
    · rw [old _ _ (by decide) h, cut]; exact r1 c h
    · rw [a51, cut]; exact Or.inr ⟨hm.1, hm.2, hc⟩
  · intro c c' hcc hc'
    rcases lt_or c' hc' with h' | rfl
    · rw [old _ _ (by decide) h', old _ _ (by decide) (by omega)]; exact r2 c c' hcc h'
    · rw [a48, old _ _ (by decide) hcc]; exact r3 c hcc
  · intro c hc
    rw [addRow_46]
    rcases lt_or c hc with h | rfl
    · rw [old _ _ (by decide) h]; have := r3 c h; omega
    · rw [a48]; omega
  · intro c hc
    rw [e38, e39]
    rcases lt_or c hc with h | rfl
    · rw [old _ _ (by decide) h, old _ _ (by decide) h]; exact r4 c h
    · rw [a49, a50]; exact ⟨hfr.2, hto.2⟩
  · intro w hw
    rw [e55] at hw
    rw [hi _ _ (by decide), e38, e39]
    refine ⟨(r7 w hw).1, callWith_of (fun x hx => ?_)⟩
    rcases lt_or x hx with h | rfl
    · rw [old _ _ (by decide) h, old _ _ (by decide) h]; exact callWith_none (r7 w hw).2 h
    · rw [a49, a50]; exact ⟨(waitAt_none wfr hw).symm, (waitAt_none wto hw).symm⟩
  · intro w w' hw hw' hne
    rw [e55] at hw hw'
    rw [hi _ _ (by decide), hi _ _ (by decide)]
    exact r8 w w' hw hw' hne
  · rw [addRow_45, e40]; exact hm.2
  · intro g k hg hk
    rw [e60] at hg
    rw [hi _ _ (by decide)] at hk
    rw [hi _ _ (by decide), e38, e39]
    exact r10 g k hg hk
  · intro g g' hgg hg' h61 h62
    rw [e60] at hg'
    rw [hi _ _ (by decide), hi _ _ (by decide)] at h61
    refine r11 g g' hgg hg' h61 (fun i hi' => ?_)
    have := h62 i (by rw [hi _ _ (by decide)]; exact hi')
    rwa [hi _ _ (by decide), hi _ _ (by decide)] at this
theorem hunted_iff {S : St} (I : Rg S) {i j rule low : Int} : hunted S i j rule low = -1 ↔ NoOpen S i j low := by
  refine ⟨hunted_none I, fun N => ?_⟩
  by_cases h : hunted S i j rule low = -1
  · exact h
  · have r := hunted_rng I (i := i) (j := j) (rule := rule) (low := low)
    have := hunted_open h
    rw [N _ (by omega) r.2] at this
    cases this
theorem route_some {S : St} (I : Rg S) {i j rule : Int} {counts : Bool} (h : blockedB S i j = false) : (route S i j rule (decide (S 0 42 = 1)) (S 0 40) counts).1 ≠ -1 := by
  obtain ⟨⟨i38, i39, i40, i41, i42, i43, i44, i45, i46, i47, i55, i60⟩, irow, iwait, igrp⟩ := id I
  by_cases hh : hunted S i j rule (S 0 40) = -1
  · have h0 : hunted S i j 0 (S 0 40) = -1 := (hunted_iff I).mpr ((hunted_iff I).mp hh)
    unfold blockedB at h
    rw [h0] at h
    simp only [decide_true, Bool.true_and, Bool.or_eq_false_iff, decide_eq_false_iff_not] at h
    have hm : S 0 42 = 1 := by omega
    have e : route S i j rule (decide (S 0 42 = 1)) (S 0 40) counts = (match chain S i j (S 0 40) with | none => (-1, S) | some c => (chMid c, tookS S c counts)) := if_pos ⟨hh, by rw [hm]; rfl⟩
    rw [e]
    cases hch : chain S i j (S 0 40) with
    | none => rw [hch] at h; exact absurd h.2 (by decide)
    | some c =>
      obtain ⟨hp, hq, -⟩ := chain_good hch
      show chMid c ≠ -1
      unfold chMid
      split <;> omega
  · have e : route S i j rule (decide (S 0 42 = 1)) (S 0 40) counts = (hunted S i j rule (S 0 40), S) := if_neg (fun q => hh q.1)
    rw [e]
    exact hh
theorem waitAt_congr {S S' : St} {s : Int} (h0 : S' 0 55 = S 0 55) (h1 : ∀ c : Nat, c < (S 0 55).toNat → S' 56 c = S 56 c) : waitAt S' s = waitAt S s := by
  unfold waitAt
  rw [h0]
  refine fnd_congr _ _ (fun x _ hx => ?_)
  rw [h1 x (by omega)]
theorem stage_rng {S : St} (I : Rg S) {s : Int} (h : 0 ≤ s ∧ s < S 0 38 * S 0 39) : 0 ≤ s.tdiv (S 0 39) ∧ s.tdiv (S 0 39) < S 0 38 := by
  obtain ⟨⟨i38, i39, i40, i41, i42, i43, i44, i45, i46, i47, i55, i60⟩, irow, iwait, igrp⟩ := id I
  rw [Int.tdiv_eq_ediv_of_nonneg h.1]
  exact ⟨Int.ediv_nonneg h.1 (by omega), Int.ediv_lt_of_lt_mul (by omega) h.2⟩
/-- a call begins -/
theorem Inv.beg {S : St} (V : Inv S) {fr to last : Int} (hfr : 0 ≤ fr ∧ fr < S 0 38 * S 0 39) (hto : 0 ≤ to ∧ to < S 0 38 * S 0 39) (hne : fr ≠ to) (ifr : idleB S fr = true) (ito : idleB S to = true) (hl : 0 ≤ last ∧ last ≤ 99) (hb : S 0 46 < 200)
    (hbl : blockedB S (fr.tdiv (S 0 39)) (to.tdiv (S 0 39)) = false) : Inv (begins S fr to last) := by
  obtain ⟨a1, a2, a3, a4⟩ := route_ok V (i := fr.tdiv (S 0 39)) (j := to.tdiv (S 0 39)) (rule := S 0 43) (chains := decide (S 0 42 = 1)) (low := S 0 40) (counts := true)
  have rs := route_some V.1 (rule := S 0 43) (counts := true) hbl
  unfold begins
  generalize route S (fr.tdiv (S 0 39)) (to.tdiv (S 0 39)) (S 0 43) (decide (S 0 42 = 1)) (S 0 40) true = r at *
  obtain ⟨m, S1⟩ := r
  simp only at a1 a2 a3 a4 rs ⊢
  rcases a4 with h | ⟨b1, b2, b3, b4, b5⟩
  · exact absurd h.1 rs
  · have e0 : ∀ k, S1 0 k = S 0 k := fun k => a2 0 k (by decide) (by decide) (by decide)
    have ec : ∀ s, callWith S1 s = callWith S s := fun s => callWith_congr (e0 47) (fun c _ => ⟨a2 49 c (by decide) (by decide) (by decide), a2 50 c (by decide) (by decide) (by decide)⟩)
    have ew : ∀ s, waitAt S1 s = waitAt S s := fun s => waitAt_congr (e0 55) (fun c _ => a2 56 c (by decide) (by decide) (by decide))
    obtain ⟨f1, f2⟩ := idle_iff.mp ifr
    obtain ⟨t1, t2⟩ := idle_iff.mp ito
    refine a1.add (by rw [e0, e0]; exact hfr) (by rw [e0, e0]; exact hto) hne (by rw [ec]; exact f1) (by rw [ec]; exact t1) (by rw [ew]; exact f2) (by rw [ew]; exact t2) hl (by rw [e0]; exact ⟨b1, b2⟩) ?_ (by rw [e0]; exact hb) (by rw [e0]; exact b4) (by rw [e0]; exact b5)
    have := there_cut b3
    unfold isCutB at this ⊢
    rw [e0]
    exact this
/-- rows that go -/
theorem Inv.reidx {S S' : St} (V : Inv S) {N : Nat} {sh : Nat → Nat} (hN : S' 0 47 = (N : Int)) (h0 : ∀ k, k ≠ 47 → S' 0 k = S 0 k) (hr : ∀ f c : Nat, 48 ≤ f → f ≤ 53 → c < N → S' f c = S f (sh c)) (hi : ∀ f c, 55 ≤ f → f ≠ 65 → S' f c = S f c)
    (hs : ∀ c, c < N → sh c < (S 0 47).toNat) (hm : ∀ c c' : Nat, c < c' → c' < N → sh c < sh c') (hle : (N : Int) ≤ S 0 47) : Inv S' := by
  have I := V.1
  obtain ⟨⟨i38, i39, i40, i41, i42, i43, i44, i45, i46, i47, i55, i60⟩, irow, iwait, igrp⟩ := id I
  obtain ⟨C, r1, r2, r3, r4, r5, r6, r7, r8, r9, r10, r11⟩ := id V.2
  have hn : (S' 0 47).toNat = N := by rw [hN]; omega
  have inj : ∀ c c' : Nat, c < N → c' < N → sh c = sh c' → c = c' := by
    intro c c' hc hc' e
    rcases Nat.lt_trichotomy c c' with h | h | h
    · have := hm c c' h hc'; omega
    · exact h
    · have := hm c' c h hc; omega
  have e38 := h0 38 (by decide)
  have e39 := h0 39 (by decide)
  have e40 := h0 40 (by decide)
  have e41 := h0 41 (by decide)
  have e55 := h0 55 (by decide)
  have e60 := h0 60 (by decide)
  have cut : ∀ k, isCutB S' k = isCutB S k := fun k => by unfold isCutB; rw [e41]
  have eend : ∀ (c : Nat) (b : Bool), c < N → endS S' c b = endS S (sh c) b := fun c b hc => by
    unfold endS fromS toS
    rw [hr 49 c (by decide) (by decide) hc, hr 50 c (by decide) (by decide) hc, e39]
  refine ⟨⟨?_, ?_, ?_, ?_⟩, ?_, ?_, ?_, ?_, ?_, ?_, ?_, ?_, ?_, ?_, ?_, ?_⟩
  · rw [hN, h0 38 (by decide), h0 39 (by decide), h0 40 (by decide), h0 41 (by decide), h0 42 (by decide), h0 43 (by decide), h0 44 (by decide), h0 45 (by decide), h0 46 (by decide), h0 55 (by decide), h0 60 (by decide)]
    omega
  · intro c hc
    rw [hn] at hc
    unfold RowR
    rw [hr 48 c (by decide) (by decide) hc, hr 49 c (by decide) (by decide) hc, hr 50 c (by decide) (by decide) hc, hr 51 c (by decide) (by decide) hc, hr 52 c (by decide) (by decide) hc, hr 53 c (by decide) (by decide) hc]
    exact irow _ (hs c hc)
  · intro w hw
    unfold WaitR
    rw [e55] at hw
    rw [hi 56 _ (by decide) (by decide), hi 57 _ (by decide) (by decide), hi 58 _ (by decide) (by decide), hi 59 _ (by decide) (by decide), e60]
    exact iwait w hw
  · intro g hg
    rw [e60] at hg
    obtain ⟨g1, g2, g3, g4⟩ := igrp g hg
    unfold GrpR
    rw [hi 61 _ (by decide) (by decide), hi 63 _ (by decide) (by decide)]
    exact ⟨g1, fun i hi' => by rw [hi 62 _ (by decide) (by decide)]; exact g2 i hi', g3, fun k hk => by rw [hi 64 _ (by decide) (by decide)]; exact g4 k hk⟩
  · intro c c' hc hc' h51 hm1 b hbb
    rw [hn] at hc hc'
    rw [hr 51 c (by decide) (by decide) hc, hr 51 c' (by decide) (by decide) hc'] at h51
    rw [hr 51 c (by decide) (by decide) hc] at hm1
    rw [eend _ _ hc, eend _ _ hc'] at hbb
    exact inj c c' hc hc' (C _ _ (hs c hc) (hs c' hc') h51 hm1 b hbb)
  · intro c hc
    rw [hn] at hc
    rw [e40, hr 51 c (by decide) (by decide) hc, cut]
    exact r1 _ (hs c hc)
  · intro c c' hcc hc'
    rw [hn] at hc'
    rw [hr 48 c (by decide) (by decide) (by omega), hr 48 c' (by decide) (by decide) hc']
    exact r2 _ _ (hm c c' hcc hc') (hs c' hc')
  · intro c hc
    rw [hn] at hc
    rw [h0 46 (by decide), hr 48 c (by decide) (by decide) hc]
    exact r3 _ (hs c hc)
  · intro c hc
    rw [hn] at hc
    rw [e38, e39, hr 49 c (by decide) (by decide) hc, hr 50 c (by decide) (by decide) hc]
    exact r4 _ (hs c hc)
  · intro c c' hc hc'
    rw [hn] at hc hc'
    rw [hr 49 c (by decide) (by decide) hc, hr 50 c' (by decide) (by decide) hc']
    exact r5 _ _ (hs c hc) (hs c' hc')
  · intro c c' hc hc' hne
    rw [hn] at hc hc'
    rw [hr 49 c (by decide) (by decide) hc, hr 49 c' (by decide) (by decide) hc', hr 50 c (by decide) (by decide) hc, hr 50 c' (by decide) (by decide) hc']
    exact r6 _ _ (hs c hc) (hs c' hc') (fun e => hne (inj c c' hc hc' e))
  · intro w hw
    rw [e55] at hw
    rw [hi 56 _ (by decide) (by decide), e38, e39]
    refine ⟨(r7 w hw).1, callWith_of (fun x hx => ?_)⟩
    rw [hn] at hx
    rw [hr 49 x (by decide) (by decide) hx, hr 50 x (by decide) (by decide) hx]
    exact callWith_none (r7 w hw).2 (hs x hx)
  · intro w w' hw hw' hne
    rw [e55] at hw hw'
    rw [hi 56 _ (by decide) (by decide), hi 56 _ (by decide) (by decide)]
    exact r8 w w' hw hw' hne
  · rw [h0 45 (by decide), e40]; exact r9
  · intro g k hg hk
    rw [e60] at hg
    rw [hi 63 _ (by decide) (by decide)] at hk
    rw [hi 64 _ (by decide) (by decide), e38, e39]
    exact r10 g k hg hk
  · intro g g' hgg hg' h61 h62
    rw [e60] at hg'
    rw [hi 61 _ (by decide) (by decide), hi 61 _ (by decide) (by decide)] at h61
    refine r11 g g' hgg hg' h61 (fun i hi' => ?_)
    have := h62 i (by rw [hi 61 _ (by decide) (by decide)]; exact hi')
    rwa [hi 62 _ (by decide) (by decide), hi 62 _ (by decide) (by decide)] at this
def shf (place c : Nat) : Nat := if c < place then c else c + 1
theorem delRow_0 {S : St} {p k : Nat} (h : k ≠ 47) : delRow S p 0 k = S 0 k := by
  unfold delRow
  rw [up2_ne (Or.inr h)]
  exact if_neg (fun q => by omega)
theorem delRow_47 {S : St} {p : Nat} : delRow S p 0 47 = S 0 47 - 1 := by unfold delRow; rw [up2_at]
theorem delRow_row {S : St} {p f c : Nat} (h1 : 48 ≤ f) (h2 : f ≤ 54) (hc : c + 1 < (S 0 47).toNat) : delRow S p f c = S f (shf p c) := by
  unfold delRow shf
  rw [up2_ne (Or.inl (by omega))]
  by_cases h : c < p
  · rw [if_neg (fun q => by omega), if_pos h]
  · rw [if_pos ⟨h1, h2, by omega, hc⟩, if_neg h]
theorem delRow_off {S : St} {p f c : Nat} (h : 55 ≤ f) : delRow S p f c = S f c := by
  unfold delRow
  rw [up2_ne (Or.inl (by omega))]
  exact if_neg (fun q => by omega)
theorem Inv.del {S : St} (V : Inv S) {p : Nat} (hp : p < (S 0 47).toNat) : Inv (delRow S p) := by
  have I := V.1
  obtain ⟨⟨i38, i39, i40, i41, i42, i43, i44, i45, i46, i47, i55, i60⟩, irow, iwait, igrp⟩ := id I
  refine V.reidx (N := (S 0 47).toNat - 1) (sh := shf p) (by rw [delRow_47]; omega) (fun k h => delRow_0 h) (fun f c h1 h2 hc => delRow_row h1 (by omega) (by omega)) (fun f c h _ => delRow_off h) (fun c hc => ?_) (fun c c' h1 h2 => ?_) (by omega)
  · unfold shf; split <;> omega
  · unfold shf; split <;> split <;> omega
/-- other waiters -/
def withW (S T : St) (W : Int) : St := fun f c => if f = 54 ∨ f = 65 then 0 else if 56 ≤ f ∧ f ≤ 59 then T f c else if f = 0 ∧ c = 55 then W else S f c
theorem Inv.wts {S T : St} (V : Inv S) {W : Int} (hW : 0 ≤ W ∧ W ≤ 8) (hT : ∀ w : Nat, w < W.toNat → ((0 ≤ T 56 w ∧ T 56 w < 36) ∧ (0 ≤ T 57 w ∧ T 57 w < S 0 60) ∧ (0 ≤ T 58 w ∧ T 58 w ≤ 99) ∧ (0 ≤ T 59 w ∧ T 59 w ≤ 100000)) ∧ T 56 w < S 0 38 * S 0 39 ∧ callWith S (T 56 w) = -1)
    (hd : ∀ w w' : Nat, w < W.toNat → w' < W.toNat → w ≠ w' → T 56 w ≠ T 56 w') : Inv (withW S T W) := by
  obtain ⟨⟨⟨i38, i39, i40, i41, i42, i43, i44, i45, i46, i47, i55, i60⟩, irow, iwait, igrp⟩, C, r1, r2, r3, r4, r5, r6, r7, r8, r9⟩ := V
  exact ⟨⟨⟨i38, i39, i40, i41, i42, i43, i44, i45, i46, i47, hW, i60⟩, irow, fun w hw => (hT w hw).1, igrp⟩, C, r1, r2, r3, r4, r5, r6, fun w hw => (hT w hw).2, hd, r9⟩
theorem Inv.wts' {S S' : St} (V : Inv S) (h0 : ∀ k, k ≠ 55 → S' 0 k = S 0 k) (hi : ∀ f c, f ≠ 0 → f ≠ 54 → f ≠ 65 → (f < 56 ∨ 59 < f) → S' f c = S f c) (hW : 0 ≤ S' 0 55 ∧ S' 0 55 ≤ 8)
    (hT : ∀ w : Nat, w < (S' 0 55).toNat → ((0 ≤ S' 56 w ∧ S' 56 w < 36) ∧ (0 ≤ S' 57 w ∧ S' 57 w < S 0 60) ∧ (0 ≤ S' 58 w ∧ S' 58 w ≤ 99) ∧ (0 ≤ S' 59 w ∧ S' 59 w ≤ 100000)) ∧ S' 56 w < S 0 38 * S 0 39 ∧ callWith S (S' 56 w) = -1)
    (hd : ∀ w w' : Nat, w < (S' 0 55).toNat → w' < (S' 0 55).toNat → w ≠ w' → S' 56 w ≠ S' 56 w') : Inv S' := by
  have en : nrm S' = withW S S' (S' 0 55) := by
    funext f c
    unfold nrm withW
    by_cases a : f = 54 ∨ f = 65
    · rw [if_pos a, if_pos a]
    · rw [if_neg a, if_neg a]
      by_cases b : 56 ≤ f ∧ f ≤ 59
      · rw [if_pos b]
      · rw [if_neg b]
        by_cases e : f = 0 ∧ c = 55
        · rw [if_pos e, e.1, e.2]
        · rw [if_neg e]
          by_cases z : f = 0
          · rw [z]; exact h0 c (fun q => e ⟨z, q⟩)
          · exact hi f c z (fun q => a (Or.inl q)) (fun q => a (Or.inr q)) (by omega)
  rw [← Inv_nrm, en]
  exact V.wts hW hT hd
theorem delWait_0 {S : St} {p k : Nat} (h : k ≠ 55) : delWait S p 0 k = S 0 k := by
  unfold delWait
  rw [up2_ne (Or.inr h)]
  exact if_neg (fun q => by omega)
theorem delWait_55 {S : St} {p : Nat} : delWait S p 0 55 = S 0 55 - 1 := by unfold delWait; rw [up2_at]
theorem delWait_row {S : St} {p f c : Nat} (h1 : 56 ≤ f) (h2 : f ≤ 59) (hc : c + 1 < (S 0 55).toNat) : delWait S p f c = S f (shf p c) := by
  unfold delWait shf
  rw [up2_ne (Or.inl (by omega))]
  by_cases h : c < p
  · rw [if_neg (fun q => by omega), if_pos h]
  · rw [if_pos ⟨h1, h2, by omega, hc⟩, if_neg h]
theorem delWait_off {S : St} {p f c : Nat} (h : f ≠ 0) (h2 : f < 56 ∨ 59 < f) : delWait S p f c = S f c := by
  unfold delWait
  rw [up2_ne (Or.inl h)]
  exact if_neg (fun q => by omega)
theorem Inv.delW {S : St} (V : Inv S) {p : Nat} (hp : p < (S 0 55).toNat) : Inv (delWait S p) := by
  have I := V.1
  obtain ⟨⟨i38, i39, i40, i41, i42, i43, i44, i45, i46, i47, i55, i60⟩, irow, iwait, igrp⟩ := id I
  obtain ⟨C, r1, r2, r3, r4, r5, r6, r7, r8, r9, r10, r11⟩ := id V.2
  have hn : (delWait S p 0 55).toNat = (S 0 55).toNat - 1 := by rw [delWait_55]; omega
  have hs : ∀ c, c < (S 0 55).toNat - 1 → shf p c < (S 0 55).toNat := fun c hc => by unfold shf; split <;> omega
  refine V.wts' (fun k hk => delWait_0 hk) (fun f c h1 _ _ h2 => delWait_off h1 h2) (by rw [delWait_55]; omega) (fun w hw => ?_) (fun w w' hw hw' hne => ?_)
  · rw [hn] at hw
    rw [delWait_row (f := 56) (by decide) (by decide) (by omega), delWait_row (f := 57) (by decide) (by decide) (by omega), delWait_row (f := 58) (by decide) (by decide) (by omega), delWait_row (f := 59) (by decide) (by decide) (by omega)]
    exact ⟨iwait _ (hs w hw), r7 _ (hs w hw)⟩
  · rw [hn] at hw hw'
    rw [delWait_row (f := 56) (by decide) (by decide) (by omega), delWait_row (f := 56) (by decide) (by decide) (by omega)]
    refine r8 _ _ (hs w hw) (hs w' hw') ?_
    unfold shf
    split <;> split <;> omega
theorem Inv.addW {S : St} (V : Inv S) {fr g last : Int} (hfr : 0 ≤ fr ∧ fr < S 0 38 * S 0 39) (hg : 0 ≤ g ∧ g < S 0 60) (hl : 0 ≤ last ∧ last ≤ 99) (ifr : idleB S fr = true) (hw : S 0 55 ≠ 8) : Inv (addWait S fr g last) := by
  have I := V.1
  obtain ⟨⟨i38, i39, i40, i41, i42, i43, i44, i45, i46, i47, i55, i60⟩, irow, iwait, igrp⟩ := id I
  have s36 := sub36 I
  obtain ⟨C, r1, r2, r3, r4, r5, r6, r7, r8, r9, r10, r11⟩ := id V.2
  obtain ⟨f1, f2⟩ := idle_iff.mp ifr
  have e55 : addWait S fr g last 0 55 = S 0 55 + 1 := by unfold addWait; rw [up2_at]
  have at' : addWait S fr g last 56 (S 0 55).toNat = fr ∧ addWait S fr g last 57 (S 0 55).toNat = g ∧ addWait S fr g last 58 (S 0 55).toNat = last ∧ addWait S fr g last 59 (S 0 55).toNat = S 0 44 := by
    refine ⟨?_, ?_, ?_, ?_⟩ <;> (unfold addWait; simp [up2])
  have old : ∀ f c, f ≠ 0 → c ≠ (S 0 55).toNat ∨ f < 56 ∨ 59 < f → addWait S fr g last f c = S f c := by
    intro f c h0 h
    unfold addWait
    rw [up2_ne (Or.inl h0), up2_ne (by omega), up2_ne (by omega), up2_ne (by omega), up2_ne (by omega)]
  have lt_or : ∀ w : Nat, w < (addWait S fr g last 0 55).toNat → w < (S 0 55).toNat ∨ w = (S 0 55).toNat := fun w hw => by rw [e55] at hw; omega
  refine V.wts' (fun k hk => by unfold addWait; rw [up2_ne (Or.inr hk), up2_ne (Or.inl (by decide)), up2_ne (Or.inl (by decide)), up2_ne (Or.inl (by decide)), up2_ne (Or.inl (by decide))]) (fun f c h1 _ _ h2 => old f c h1 (Or.inr h2)) (by rw [e55]; omega) (fun w hw => ?_) (fun w w' hw hw' hne => ?_)
  · rcases lt_or w hw with h | rfl
    · rw [old 56 w (by decide) (Or.inl (by omega)), old 57 w (by decide) (Or.inl (by omega)), old 58 w (by decide) (Or.inl (by omega)), old 59 w (by decide) (Or.inl (by omega))]
      exact ⟨iwait w h, r7 w h⟩
    · rw [at'.1, at'.2.1, at'.2.2.1, at'.2.2.2]
      exact ⟨⟨by omega, hg, hl, by omega⟩, hfr.2, f1⟩
  · rcases lt_or w hw with h | rfl <;> rcases lt_or w' hw' with h' | rfl
    · rw [old 56 w (by decide) (Or.inl (by omega)), old 56 w' (by decide) (Or.inl (by omega))]; exact r8 w w' h h' hne
    · rw [old 56 w (by decide) (Or.inl (by omega)), at'.1]; exact waitAt_none f2 h
    · rw [old 56 w' (by decide) (Or.inl (by omega)), at'.1]; exact (waitAt_none f2 h').symm
    · exact absurd rfl hne
/-- tick, mode and hunt -/
def with0 (S : St) (k : Nat) (v : Int) : St := fun f c => if f = 54 ∨ f = 65 then 0 else if f = 0 ∧ c = k then v else S f c
theorem nrm_up0 {S : St} {k : Nat} {v : Int} : nrm (up2 S 0 k v) = with0 S k v := by
  funext f c
  unfold nrm with0
  by_cases a : f = 54 ∨ f = 65
  · rw [if_pos a, if_pos a]
  · rw [if_neg a, if_neg a]
    rfl
theorem Inv.tick {S : St} (V : Inv S) {v : Int} (h : 0 ≤ v ∧ v ≤ 100000) : Inv (up2 S 0 44 v) := by
  rw [← Inv_nrm, nrm_up0]
  obtain ⟨⟨⟨i38, i39, i40, i41, i42, i43, i44, i45, i46, i47, i55, i60⟩, irow⟩, r⟩ := V
  exact ⟨⟨⟨i38, i39, i40, i41, i42, i43, h, i45, i46, i47, i55, i60⟩, irow⟩, r⟩
theorem Inv.mode {S : St} (V : Inv S) {v : Int} (h : 0 ≤ v ∧ v ≤ 1) : Inv (up2 S 0 42 v) := by
  rw [← Inv_nrm, nrm_up0]
  obtain ⟨⟨⟨i38, i39, i40, i41, i42, i43, i44, i45, i46, i47, i55, i60⟩, irow⟩, r⟩ := V
  exact ⟨⟨⟨i38, i39, i40, i41, h, i43, i44, i45, i46, i47, i55, i60⟩, irow⟩, r⟩
theorem Inv.hunt {S : St} (V : Inv S) {v : Int} (h : 0 ≤ v ∧ v ≤ 2) : Inv (up2 S 0 43 v) := by
  rw [← Inv_nrm, nrm_up0]
  obtain ⟨⟨⟨i38, i39, i40, i41, i42, i43, i44, i45, i46, i47, i55, i60⟩, irow⟩, r⟩ := V
  exact ⟨⟨⟨i38, i39, i40, i41, i42, h, i44, i45, i46, i47, i55, i60⟩, irow⟩, r⟩
theorem Inv.cutset {S : St} (V : Inv S) {v : Int} (h : 0 ≤ v ∧ v ≤ 511) (hc : ∀ c : Nat, c < (S 0 47).toNat → S 51 c = -1 ∨ isCutB (up2 S 0 41 v) (S 51 c) = false) : Inv (up2 S 0 41 v) := by
  have hc' : ∀ c : Nat, c < (S 0 47).toNat → S 51 c = -1 ∨ isCutB (with0 S 41 v) (S 51 c) = false := hc
  rw [← Inv_nrm, nrm_up0]
  obtain ⟨⟨⟨i38, i39, i40, i41, i42, i43, i44, i45, i46, i47, i55, i60⟩, irow⟩, C, r1, r⟩ := V
  exact ⟨⟨⟨i38, i39, i40, h, i42, i43, i44, i45, i46, i47, i55, i60⟩, irow⟩, C, fun c hcn => (hc' c hcn).elim Or.inl (fun z => (r1 c hcn).elim Or.inl (fun y => Or.inr ⟨y.1, y.2.1, z⟩)), r⟩
theorem Inv.latest {S : St} (V : Inv S) {v : Int} (h : 0 ≤ v ∧ v < S 0 40) : Inv (up2 S 0 45 v) := by
  rw [← Inv_nrm, nrm_up0]
  obtain ⟨⟨⟨i38, i39, i40, i41, i42, i43, i44, i45, i46, i47, i55, i60⟩, irow⟩, C, r1, r2, r3, r4, r5, r6, r7, r8, r9, r10⟩ := V
  have h8 : v ≤ 8 := by omega
  exact ⟨⟨⟨i38, i39, i40, i41, i42, i43, i44, ⟨h.1, h8⟩, i46, i47, i55, i60⟩, irow⟩, C, r1, r2, r3, r4, r5, r6, r7, r8, h.2, r10⟩
