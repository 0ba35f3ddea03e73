/-! THE PURE PICTURE, 6: cuts and packing -/
theorem shr_nat : ∀ k : Fin 9, ∀ n : Fin 512, ishr (n.val : Int) (k.val : Int) = ((n.val >>> k.val : Nat) : Int) := by decide +kernel
theorem and1_nat : ∀ n : Fin 512, iand (n.val : Int) 1 = ((n.val % 2 : Nat) : Int) := by decide +kernel
theorem or_nat : ∀ k : Fin 9, ∀ n : Fin 512, ior (n.val : Int) (ishl 1 (k.val : Int)) = ((n.val ||| 2 ^ k.val : Nat) : Int) := by decide +kernel
theorem del_nat : ∀ k : Fin 9, ∀ n : Fin 512, iand (n.val : Int) (ixor (ishl 1 (k.val : Int)) (-1)) = ((n.val &&& (511 - 2 ^ k.val) : Nat) : Int) := by decide +kernel
/-- a bit of the cut set -/
theorem cut_bit {S : St} (h : 0 ≤ S 0 41 ∧ S 0 41 ≤ 511) {k : Int} (hk : 0 ≤ k ∧ k < 9) : isCutB S k = (S 0 41).toNat.testBit k.toNat := by
  unfold isCutB
  have e1 := shr_nat ⟨k.toNat, by omega⟩ ⟨(S 0 41).toNat, by omega⟩
  simp only [Int.toNat_of_nonneg h.1, Int.toNat_of_nonneg hk.1] at e1
  have hlt : (S 0 41).toNat >>> k.toNat < 512 := Nat.lt_of_le_of_lt (Nat.shiftRight_le _ _) (by omega)
  have e2 := and1_nat ⟨_, hlt⟩
  simp only at e2
  rw [e1, e2, Nat.testBit]
  simp only [Nat.one_and_eq_mod_two]
  have := Nat.mod_two_eq_zero_or_one ((S 0 41).toNat >>> k.toNat)
  rcases this with e | e <;> rw [e] <;> decide
theorem cut_add {S : St} (h : 0 ≤ S 0 41 ∧ S 0 41 ≤ 511) {m : Int} (hm : 0 ≤ m ∧ m < 9) : (0 ≤ ior (S 0 41) (ishl 1 m) ∧ ior (S 0 41) (ishl 1 m) ≤ 511) ∧ ∀ k : Int, 0 ≤ k → k < 9 → isCutB (up2 S 0 41 (ior (S 0 41) (ishl 1 m))) k = (isCutB S k || decide (k = m)) := by
  have e := or_nat ⟨m.toNat, by omega⟩ ⟨(S 0 41).toNat, by omega⟩
  simp only [Int.toNat_of_nonneg h.1, Int.toNat_of_nonneg hm.1] at e
  have hb : (S 0 41).toNat ||| 2 ^ m.toNat < 2 ^ 9 := Nat.or_lt_two_pow (by omega) (Nat.pow_lt_pow_right (by decide) (by omega))
  rw [e]
  refine ⟨by omega, fun k h0 h1 => ?_⟩
  rw [cut_bit (S := up2 S 0 41 _) (by rw [up2_at]; omega) ⟨h0, h1⟩, up2_at, Int.toNat_natCast, Nat.testBit_or, Nat.testBit_two_pow, cut_bit h ⟨h0, h1⟩]
  congr 1
  rw [decide_eq_decide]
  omega
theorem cut_del {S : St} (h : 0 ≤ S 0 41 ∧ S 0 41 ≤ 511) {m : Int} (hm : 0 ≤ m ∧ m < 9) : (0 ≤ iand (S 0 41) (ixor (ishl 1 m) (-1)) ∧ iand (S 0 41) (ixor (ishl 1 m) (-1)) ≤ 511) ∧ ∀ k : Int, 0 ≤ k → k < 9 → isCutB (up2 S 0 41 (iand (S 0 41) (ixor (ishl 1 m) (-1)))) k = (isCutB S k && !decide (k = m)) := by
  have e := del_nat ⟨m.toNat, by omega⟩ ⟨(S 0 41).toNat, by omega⟩
  simp only [Int.toNat_of_nonneg h.1, Int.toNat_of_nonneg hm.1] at e
  have hb : (S 0 41).toNat &&& (511 - 2 ^ m.toNat) ≤ (S 0 41).toNat := Nat.and_le_left
  rw [e]
  refine ⟨by omega, fun k h0 h1 => ?_⟩
  have hp : 2 ^ m.toNat < 2 ^ 9 := Nat.pow_lt_pow_right (by decide) (by omega)
  rw [cut_bit (S := up2 S 0 41 _) (by rw [up2_at]; omega) ⟨h0, h1⟩, up2_at, Int.toNat_natCast, Nat.testBit_and, cut_bit h ⟨h0, h1⟩, show 511 - 2 ^ m.toNat = 2 ^ 9 - (2 ^ m.toNat + 1) by omega, Nat.testBit_two_pow_sub_succ hp, Nat.testBit_two_pow]
  congr 1
  rw [decide_eq_true (show k.toNat < 9 by omega), Bool.true_and]
  congr 1
  rw [decide_eq_decide]
  omega
/-- a call that lies nowhere is laid -/
theorem Inv.lay {S : St} (V : Inv S) {c : Nat} (hc : c < (S 0 47).toNat) (h1 : S 51 c = -1) {m : Int} (hm : 0 ≤ m ∧ m < S 0 40) (hcut : isCutB S m = false) (f1 : carriedAt S m (fromS S c) false = -1) (f2 : carriedAt S m (toS S c) true = -1) : Inv (up2 S 51 c m) := by
  have I := V.1
  obtain ⟨⟨i38, i39, i40, i41, i42, i43, i44, i45, i46, i47, i55, i60⟩, irow, iwait, igrp⟩ := id I
  have ee : ∀ (x : Nat) (b : Bool), endS (up2 S 51 c m) x b = endS S x b := fun x b => by
    unfold endS fromS toS
    rw [up2_ne (Or.inl (by decide)), up2_ne (Or.inl (by decide)), up2_ne (Or.inl (by decide))]
  have e47 : up2 S 51 c m 0 47 = S 0 47 := up2_ne (Or.inl (by decide))
  have ff : ∀ b, carriedAt S m (endS S c b) b = -1 := fun b => by cases b <;> assumption
  refine V.mid' (fun f c' h _ _ => up2_ne (Or.inl h)) (fun x hx => ?_) (fun x y hx hy hxy hn b hb => ?_) (fun x hx => ?_)
  · by_cases e : x = c
    · rw [e, up2_at]; omega
    · rw [up2_ne (Or.inr e)]; exact (irow x hx).2.2.2.1
  · rw [e47] at hx hy
    rw [ee, ee] at hb
    by_cases ex : x = c
    · by_cases ey : y = c
      · rw [ex, ey]
      · rw [ex, up2_at, up2_ne (Or.inr ey)] at hxy
        rw [ex] at hb
        exact (carriedAt_none (ff b) hy hxy.symm hb.symm).elim
    · by_cases ey : y = c
      · rw [ey, up2_at, up2_ne (Or.inr ex)] at hxy
        rw [ey] at hb
        exact (carriedAt_none (ff b) hx hxy hb).elim
      · rw [up2_ne (Or.inr ex), up2_ne (Or.inr ey)] at hxy
        rw [up2_ne (Or.inr ex)] at hn
        exact V.2.1 x y hx hy hxy hn b hb
  · by_cases e : x = c
    · rw [e, up2_at]; exact Or.inr ⟨hm.1, hm.2, hcut⟩
    · rw [up2_ne (Or.inr e)]; exact V.2.2.1 x hx
theorem rerouted_at {S : St} {c : Nat} {f x : Nat} (h : f ≠ 65) (h2 : f ≠ 54) (h3 : f ≠ 0 ∨ x ≠ 45) : rerouted S c f x = if f = 51 ∧ x = c then (reroute S c).1 else (reroute S c).2 f x := by
  unfold rerouted
  rw [acc_ne h, up2_ne (by omega), up2_ne (Or.inl h2)]
  rfl
/-- a call of a middle that was cut gets another one -/
theorem reroute_ok {S : St} (V : Inv S) (g : Gap S) {c : Nat} (hc : c < (S 0 47).toNat) (h1 : S 51 c = -1) : Inv (reroute S c).2 ∧ Gap (reroute S c).2 ∧ (∀ f x, f ≠ 51 → f ≠ 54 → f ≠ 65 → (reroute S c).2 f x = S f x) ∧ (∀ x, (reroute S c).2 51 x = -1 ↔ S 51 x = -1) ∧
    ((reroute S c).1 ≠ -1 → Inv (rerouted S c) ∧ Gap (rerouted S c) ∧ (0 ≤ (reroute S c).1 ∧ (reroute S c).1 < S 0 40) ∧ isThereB S (reroute S c).1 (S 0 40) = true) := by
  have RO := route_ok V (i := fromS S c) (j := toS S c) (rule := S 0 43) (chains := decide (S 0 42 = 1)) (low := S 0 40) (counts := true)
  rw [show route S (fromS S c) (toS S c) (S 0 43) (decide (S 0 42 = 1)) (S 0 40) true = reroute S c from rfl] at RO
  obtain ⟨a1, a2, a3, a4⟩ := RO
  have g1 : Gap (reroute S c).2 := g.eq (a2 _ _ (by decide) (by decide) (by decide)) (a2 _ _ (by decide) (by decide) (by decide)) (route_65 (by decide) (by decide)) (route_65 (by decide) (by decide)) (route_65 (by decide) (by decide))
  refine ⟨a1, g1, a2, a3, fun hn => ?_⟩
  rcases a4 with h | ⟨b1, b2, b3, b4, b5⟩
  · exact absurd h.1 hn
  · have e0 : ∀ k, (reroute S c).2 0 k = S 0 k := fun k => a2 0 k (by decide) (by decide) (by decide)
    have ef : fromS (reroute S c).2 c = fromS S c := by unfold fromS; rw [e0, a2 49 c (by decide) (by decide) (by decide)]
    have et : toS (reroute S c).2 c = toS S c := by unfold toS; rw [e0, a2 50 c (by decide) (by decide) (by decide)]
    have V1 : Inv (up2 (reroute S c).2 51 c (reroute S c).1) := Inv.lay a1 (by rw [e0]; exact hc) ((a3 c).mpr h1) (by rw [e0]; exact ⟨b1, b2⟩) (by have := there_cut b3; unfold isCutB at this ⊢; rw [e0]; exact this) (by rw [ef]; exact b4) (by rw [et]; exact b5)
    have V2 : Inv (up2 (up2 (reroute S c).2 51 c (reroute S c).1) 54 c ((reroute S c).2 54 c + 1)) := V1.ext (fun f x h _ => up2_ne (Or.inl h))
    have V3 := V2.latest (v := (reroute S c).1) (by rw [up2_ne (Or.inl (by decide)), up2_ne (Or.inl (by decide)), e0]; exact ⟨b1, b2⟩)
    refine ⟨V3.acc 10 1, g1.eq ?_ ?_ ?_ ?_ ?_, ⟨b1, b2⟩, b3⟩
    · rw [rerouted_at (by decide) (by decide) (by decide), if_neg (fun q => by omega)]
    · rw [rerouted_at (by decide) (by decide) (by decide), if_neg (fun q => by omega)]
    · unfold rerouted; rw [acc_65 (by decide), up2_ne (Or.inl (by decide)), up2_ne (Or.inl (by decide)), up2_ne (Or.inl (by decide))]
    · unfold rerouted; rw [acc_65 (by decide), up2_ne (Or.inl (by decide)), up2_ne (Or.inl (by decide)), up2_ne (Or.inl (by decide))]
    · unfold rerouted; rw [acc_65 (by decide), up2_ne (Or.inl (by decide)), up2_ne (Or.inl (by decide)), up2_ne (Or.inl (by decide))]
/-- where a cut stands: r calls are still to be looked at -/
def CutI (fl : Nat → Bool) (r k c : Nat) (S : St) : Prop := Inv S ∧ Gap S ∧ c + r = (S 0 47).toNat ∧ (∀ x, x < c → S 51 x ≠ -1) ∧ ∀ x, x < r → (S 51 (c + x) = -1 ↔ fl (k + x) = true)
theorem CutI.skip {fl : Nat → Bool} {r k c : Nat} {S : St} (h : CutI fl (r + 1) k c S) (hk : fl k = false) : CutI fl r (k + 1) (c + 1) S := by
  obtain ⟨V, g, h, hl, hf⟩ := h
  have h0 := hf 0 (by omega)
  rw [Nat.add_zero, Nat.add_zero] at h0
  refine ⟨V, g, by omega, fun x hx => ?_, fun x hx => ?_⟩
  · by_cases ex : x = c
    · rw [ex]; intro q; rw [h0.mp q] at hk; cases hk
    · exact hl x (by omega)
  · have := hf (x + 1) (by omega)
    rwa [show c + (x + 1) = c + 1 + x by omega, show k + (x + 1) = k + 1 + x by omega] at this
theorem CutI.at {fl : Nat → Bool} {r k c : Nat} {S : St} (h : CutI fl (r + 1) k c S) (hk : fl k = true) : c < (S 0 47).toNat ∧ S 51 c = -1 := by
  obtain ⟨V, g, h, hl, hf⟩ := h
  have h0 := hf 0 (by omega)
  rw [Nat.add_zero, Nat.add_zero] at h0
  exact ⟨by omega, h0.mpr hk⟩
theorem CutI.drop {fl : Nat → Bool} {r k c : Nat} {S : St} (h : CutI fl (r + 1) k c S) (hk : fl k = true) : CutI fl r (k + 1) c (addAcc (delRow (reroute S c).2 c) 7 1) ∧ c < ((reroute S c).2 0 47).toNat ∧ addAcc (delRow (reroute S c).2 c) 7 1 0 44 = S 0 44 := by
  obtain ⟨hc, hm⟩ := h.at hk
  obtain ⟨V, g, h, hl, hf⟩ := h
  have I := V.1
  obtain ⟨⟨i38, i39, i40, i41, i42, i43, i44, i45, i46, i47, i55, i60⟩, irow, iwait, igrp⟩ := id I
  obtain ⟨V1, g1, a2, a3, a4⟩ := reroute_ok V g (c := c) (by omega) hm
  have e47 := a2 0 47 (by decide) (by decide) (by decide)
  have hin : c < ((reroute S c).2 0 47).toNat := by rw [e47]; omega
  have gd : Gap (addAcc (delRow (reroute S c).2 c) 7 1) := by
    unfold Gap at g1 ⊢
    rw [acc_0, acc_0, delRow_0 (by decide), delRow_47, acc_at, acc_65 (by decide), acc_65 (by decide), delRow_off (by decide), delRow_off (by decide), delRow_off (by decide)]
    omega
  have row : ∀ x, x + 1 < c + (r + 1) → (addAcc (delRow (reroute S c).2 c) 7 1 51 x = -1 ↔ S 51 (shf c x) = -1) := fun x hx => by
    rw [acc_ne (by decide), delRow_row (by decide) (by decide) (by rw [e47]; omega)]
    exact a3 _
  refine ⟨⟨(V1.del hin).acc 7 1, gd, by rw [acc_0, delRow_47, e47]; omega, fun x hx q => ?_, fun x hx => ?_⟩, hin, (acc_ne (by decide)).trans ((delRow_0 (by decide)).trans (a2 0 44 (by decide) (by decide) (by decide)))⟩
  · rw [row x (by omega)] at q
    unfold shf at q
    rw [if_pos hx] at q
    exact hl x hx q
  · have := hf (x + 1) (by omega)
    rw [row (c + x) (by omega), show shf c (c + x) = c + (x + 1) by unfold shf; rw [if_neg (by omega)]; omega, this, show k + (x + 1) = k + 1 + x by omega]
theorem CutI.put {fl : Nat → Bool} {r k c : Nat} {S : St} (h : CutI fl (r + 1) k c S) (hk : fl k = true) (hn : (reroute S c).1 ≠ -1) : CutI fl r (k + 1) (c + 1) (rerouted S c) ∧ rerouted S c 0 44 = S 0 44 := by
  obtain ⟨hc, hm⟩ := h.at hk
  obtain ⟨V, g, h, hl, hf⟩ := h
  obtain ⟨V1, g1, a2, a3, a4⟩ := reroute_ok V g (c := c) (by omega) hm
  have e47 := a2 0 47 (by decide) (by decide) (by decide)
  obtain ⟨V2, g2, m1, m2⟩ := a4 hn
  have row : ∀ x, rerouted S c 51 x = if x = c then (reroute S c).1 else (reroute S c).2 51 x := fun x => by
    rw [rerouted_at (by decide) (by decide) (Or.inl (by decide))]
    by_cases ex : x = c
    · rw [if_pos ⟨rfl, ex⟩, if_pos ex]
    · rw [if_neg (fun q => ex q.2), if_neg ex]
  have r47 : rerouted S c 0 47 = S 0 47 := by rw [rerouted_at (by decide) (by decide) (by decide), if_neg (fun q => by omega), e47]
  have r44 : rerouted S c 0 44 = S 0 44 := by rw [rerouted_at (by decide) (by decide) (by decide), if_neg (fun q => by omega), a2 0 44 (by decide) (by decide) (by decide)]
  refine ⟨⟨V2, g2, by rw [r47]; omega, fun x hx => ?_, fun x hx => ?_⟩, r44⟩
  · rw [row]
    by_cases ex : x = c
    · rw [if_pos ex]; exact hn
    · rw [if_neg ex]; intro q; exact hl x (by omega) ((a3 x).mp q)
  · have := hf (x + 1) (by omega)
    rw [row, if_neg (by omega), a3, show c + 1 + x = c + (x + 1) by omega, this, show k + (x + 1) = k + 1 + x by omega]
theorem cutL_ok {fl : Nat → Bool} : ∀ (r k c : Nat) (e : Int) (S : St), CutI fl r k c S → Ok (cutL fl r k c e S).2 ∧ (cutL fl r k c e S).2 0 44 = S 0 44 ∧ (e ≤ (cutL fl r k c e S).1 ∧ (cutL fl r k c e S).1 ≤ e + r) := by
  intro r
  induction r with
  | zero => intro k c e S h; exact ⟨⟨h.1, fun x hx => h.2.2.2.1 x (by have := h.2.2.1; simp only [cutL] at hx; omega), h.2.1⟩, rfl, by simp only [cutL]; omega⟩
  | succ r ih =>
    intro k c e S h
    simp only [cutL]
    split
    · rename_i hk
      obtain ⟨a, x, y⟩ := ih (k + 1) (c + 1) e S (h.skip hk)
      exact ⟨a, x, by omega⟩
    · rename_i hk
      have hk : fl k = true := by simpa using hk
      split
      · rename_i hn
        obtain ⟨d1, d2, d3⟩ := h.drop hk
        obtain ⟨a, x, y⟩ := ih (k + 1) c (e + 1) _ d1
        exact ⟨a, x.trans d3, by omega⟩
      · rename_i hn
        obtain ⟨d1, d2⟩ := h.put hk hn
        obtain ⟨a, x, y⟩ := ih (k + 1) (c + 1) e _ d1
        exact ⟨a, x.trans d2, by omega⟩
theorem lifted_off {S : St} {fl : Nat → Bool} {f c : Nat} (h : f ≠ 51) : lifted S fl f c = S f c := if_neg (fun q => h q.1)
theorem lifted_in {S : St} {fl : Nat → Bool} {c : Nat} (h : c < (S 0 47).toNat) : lifted S fl 51 c = if fl c = true then -1 else S 51 c := by
  unfold lifted
  by_cases e : fl c = true
  · rw [if_pos ⟨rfl, h, e⟩, if_pos e]
  · rw [if_neg (fun q => e q.2.2), if_neg e]
theorem lifted_end {S : St} {fl : Nat → Bool} (x : Nat) (b : Bool) : endS (lifted S fl) x b = endS S x b := by
  unfold endS fromS toS
  rw [lifted_off (by decide), lifted_off (by decide), lifted_off (by decide)]
theorem Inv.lift {S : St} (V : Inv S) (fl : Nat → Bool) : Inv (lifted S fl) := by
  have I := V.1
  obtain ⟨⟨i38, i39, i40, i41, i42, i43, i44, i45, i46, i47, i55, i60⟩, irow, iwait, igrp⟩ := id I
  refine V.mid' (fun f c' h _ _ => lifted_off h) (fun x hx => ?_) (fun x y hx hy hxy hn b hb => ?_) (fun x hx => ?_)
  · rw [lifted_in hx]
    split
    · omega
    · exact (irow x hx).2.2.2.1
  · rw [lifted_off (by decide)] at hx hy
    rw [lifted_end, lifted_end] at hb
    rw [lifted_in hx] at hxy hn
    rw [lifted_in hy] at hxy
    split at hxy
    · rename_i h; rw [if_pos h] at hn; exact absurd rfl hn
    · rename_i h
      rw [if_neg h] at hn
      split at hxy
      · exact absurd hxy hn
      · exact V.2.1 x y hx hy hxy hn b hb
  · rw [lifted_in hx]
    split
    · exact Or.inl rfl
    · exact V.2.2.1 x hx
theorem lifted_up {S : St} {fl : Nat → Bool} {v : Int} : lifted (up2 S 0 41 v) fl = up2 (lifted S fl) 0 41 v := by
  funext f c
  by_cases h : f = 51
  · subst h
    rw [up2_ne (Or.inl (by decide))]
    unfold lifted
    rw [up2_ne (Or.inr (by decide)), up2_ne (Or.inl (by decide))]
  · rw [lifted_off h]
    by_cases h2 : f = 0 ∧ c = 41
    · obtain ⟨rfl, rfl⟩ := h2
      rw [up2_at, up2_at]
    · rw [up2_ne (by omega), up2_ne (by omega), lifted_off h]
theorem cut_start {S : St} (V : Ok S) {m : Int} (hm : 0 ≤ m ∧ m < S 0 40) : CutI (fun c => decide (S 51 c = m)) (S 0 47).toNat 0 0 (lifted (up2 S 0 41 (ior (S 0 41) (ishl 1 m))) (fun c => decide (S 51 c = m))) := by
  have I := V.1.1
  obtain ⟨⟨i38, i39, i40, i41, i42, i43, i44, i45, i46, i47, i55, i60⟩, irow, iwait, igrp⟩ := id I
  obtain ⟨b1, b2⟩ := cut_add (S := S) i41 (m := m) (by omega)
  have e47 : up2 (lifted S (fun c => decide (S 51 c = m))) 0 41 (ior (S 0 41) (ishl 1 m)) 0 47 = S 0 47 := (up2_ne (Or.inr (by decide))).trans (lifted_off (by decide))
  have row : ∀ x, x < (S 0 47).toNat → up2 (lifted S (fun c => decide (S 51 c = m))) 0 41 (ior (S 0 41) (ishl 1 m)) 51 x = if S 51 x = m then -1 else S 51 x := fun x hx => by
    rw [up2_ne (Or.inl (by decide)), lifted_in hx]
    by_cases e : S 51 x = m
    · rw [if_pos e, if_pos (decide_eq_true e)]
    · rw [if_neg e, if_neg (by simpa using e)]
  have V1 : Inv (up2 (lifted S (fun c => decide (S 51 c = m))) 0 41 (ior (S 0 41) (ishl 1 m))) := by
    refine (V.1.lift _).cutset b1 (fun c hc => ?_)
    rw [lifted_off (by decide)] at hc
    have rc := row c hc
    rw [up2_ne (Or.inl (by decide))] at rc
    rw [rc]
    split
    · exact Or.inl rfl
    · rename_i hne
      rcases V.1.2.2.1 c hc with h | ⟨h0, h1, h2⟩
      · exact Or.inl h
      · refine Or.inr ?_
        have := b2 (S 51 c) h0 (by omega)
        rw [h2, Bool.false_or, decide_eq_false hne] at this
        unfold isCutB at this ⊢
        rw [up2_at] at this ⊢
        exact this
  have g1 : Gap (up2 (lifted S (fun c => decide (S 51 c = m))) 0 41 (ior (S 0 41) (ishl 1 m))) := V.2.2.eq e47 ((up2_ne (Or.inr (by decide))).trans (lifted_off (by decide))) ((up2_ne (Or.inl (by decide))).trans (lifted_off (by decide))) ((up2_ne (Or.inl (by decide))).trans (lifted_off (by decide))) ((up2_ne (Or.inl (by decide))).trans (lifted_off (by decide)))
  have hfl : ∀ x, x < (S 0 47).toNat → (up2 (lifted S (fun c => decide (S 51 c = m))) 0 41 (ior (S 0 41) (ishl 1 m)) 51 (0 + x) = -1 ↔ (fun c => decide (S 51 c = m)) (0 + x) = true) := by
    intro x hx
    rw [Nat.zero_add, row x hx]
    simp only [decide_eq_true_eq]
    by_cases e : S 51 x = m
    · rw [if_pos e]; exact ⟨fun _ => e, fun _ => rfl⟩
    · rw [if_neg e]; exact ⟨fun q => absurd q (V.2.1 x hx), fun q => absurd q e⟩
  rw [lifted_up]
  exact ⟨V1, g1, by rw [e47]; omega, fun x hx => absurd hx (Nat.not_lt_zero _), hfl⟩
theorem Ok.cts {S : St} (V : Ok S) {m : Int} (hm : 0 ≤ m ∧ m < S 0 40) : Ok (cuts S m).2 ∧ (cuts S m).2 0 44 = S 0 44 ∧ (0 ≤ (cuts S m).1 ∧ (cuts S m).1 ≤ 18) := by
  have I := V.1.1
  obtain ⟨⟨i38, i39, i40, i41, i42, i43, i44, i45, i46, i47, i55, i60⟩, irow, iwait, igrp⟩ := id I
  obtain ⟨a, x, y⟩ := cutL_ok (S 0 47).toNat 0 0 0 _ (cut_start V hm)
  refine ⟨a, x.trans ((lifted_off (by decide)).trans (up2_ne (Or.inr (by decide)))), ?_⟩
  show 0 ≤ (cutL _ _ _ _ _ _).1 ∧ (cutL _ _ _ _ _ _).1 ≤ 18
  omega
theorem Ok.mended {S : St} (V : Ok S) {m : Int} (hm : 0 ≤ m ∧ m < S 0 40) : Ok (up2 S 0 41 (iand (S 0 41) (ixor (ishl 1 m) (-1)))) := by
  have I := V.1.1
  obtain ⟨⟨i38, i39, i40, i41, i42, i43, i44, i45, i46, i47, i55, i60⟩, irow, iwait, igrp⟩ := id I
  obtain ⟨b1, b2⟩ := cut_del (S := S) i41 (m := m) (by omega)
  refine ⟨V.1.cutset b1 (fun c hc => ?_), V.2.1.eq (up2_ne (Or.inr (by decide))) (fun c => up2_ne (Or.inl (by decide))), V.2.2.eq (up2_ne (Or.inr (by decide))) (up2_ne (Or.inr (by decide))) (up2_ne (Or.inl (by decide))) (up2_ne (Or.inl (by decide))) (up2_ne (Or.inl (by decide)))⟩
  rcases V.1.2.2.1 c hc with h | ⟨h0, h1, h2⟩
  · exact Or.inl h
  · rw [b2 _ h0 (by omega), h2]
    exact Or.inr rfl
theorem Ok.mnd {S : St} (V : Ok S) {m : Int} (hm : 0 ≤ m ∧ m < S 0 40) : Ok (mends S m) ∧ mends S m 0 44 = S 0 44 := by
  obtain ⟨a, b⟩ := (V.mended hm).srvs
  exact ⟨a, b.trans (up2_ne (Or.inr (by decide)))⟩
/-- counting -/
theorem sumI_snoc {f : Nat → Int} : ∀ (k c : Nat), sumI f (k + 1) c = sumI f k c + f (c + k) := by
  intro k
  induction k with
  | zero => intro c; simp only [sumI, Nat.add_zero]; omega
  | succ k ih =>
    intro c
    have := ih (c + 1)
    rw [show c + 1 + k = c + (k + 1) by omega] at this
    rw [sumI, this]
    simp only [sumI]
    omega
theorem sumI_len {p : Nat → Bool} : ∀ n : Nat, sumI (fun k => b2i (p k)) n 0 = ((List.range n).filter p).length := by
  intro n
  induction n with
  | zero => rfl
  | succ n ih =>
    rw [sumI_snoc, ih, List.range_succ, List.filter_append, List.length_append, Nat.zero_add]
    cases h : p n <;> simp [List.filter, h, b2i]
theorem nodup_sub : ∀ (l l' : List Nat), l.Nodup → (∀ x ∈ l, x ∈ l') → l.length ≤ l'.length := by
  intro l
  induction l with
  | nil => intro l' _ _; exact Nat.zero_le _
  | cons a t ih =>
    intro l' hn hs
    have ha := hs a List.mem_cons_self
    obtain ⟨h1, h2⟩ := List.nodup_cons.mp hn
    have := ih (l'.erase a) h2 (fun x hx => (List.mem_erase_of_ne (fun e : x = a => h1 (e ▸ hx))).mpr (hs x (List.mem_cons_of_mem _ hx)))
    rw [List.length_erase_of_mem ha] at this
    have := List.length_pos_of_mem ha
    rw [List.length_cons]
    omega
theorem nodup_map {l : List Nat} {f : Nat → Nat} (hn : l.Nodup) (h : ∀ x ∈ l, ∀ y ∈ l, f x = f y → x = y) : (l.map f).Nodup := by
  rw [List.Nodup, List.pairwise_map]
  exact List.Pairwise.imp_of_mem (fun {a b} ha hb hab e => hab (h a ha b hb e)) hn
theorem there_len {S : St} {low : Int} (h : 0 ≤ low) : ∀ n : Nat, sumI (fun k => b2i (isThereB S (k : Int) low)) n 0 = if sumI (fun k => b2i (!isCutB S k)) n 0 ≤ low then sumI (fun k => b2i (!isCutB S k)) n 0 else low := by
  intro n
  induction n with
  | zero => exact Eq.symm (if_pos h)
  | succ n ih =>
    rw [sumI_snoc, sumI_snoc, ih, Nat.zero_add]
    have e : isThereB S (n : Int) low = (!isCutB S (n : Int) && decide (sumI (fun k => b2i (!isCutB S k)) n 0 < low)) := by
      unfold isThereB
      rw [Int.toNat_natCast]
    rw [e]
    cases hc : isCutB S (n : Int) with
    | true =>
      simp only [Bool.not_true, Bool.false_and, b2i_f]
      split <;> split <;> omega
    | false =>
      simp only [Bool.not_false, Bool.true_and, b2i_t]
      by_cases hl : sumI (fun k => b2i (!isCutB S k)) n 0 < low
      · rw [decide_eq_true hl, b2i_t]
        split <;> split <;> omega
      · rw [decide_eq_false hl, b2i_f]
        split <;> split <;> omega
/-- a middle of the lowest that does not carry from (or to) the stage of a call that lies nowhere -/
theorem free_there {S : St} (V : Inv S) {c : Nat} (hc : c < (S 0 47).toNat) (h51 : S 51 c = -1) (b : Bool) {low : Int} (h0 : 0 ≤ low) (h1 : low ≤ inOrd S) (h2 : callsAtS S (endS S c b) b ≤ low) : ∃ p : Nat, p < (S 0 40).toNat ∧ isThereB S p low = true ∧ carriedAt S p (endS S c b) b = -1 := by
  apply Classical.byContradiction
  intro hno
  have hall : ∀ p : Nat, p < (S 0 40).toNat → isThereB S p low = true → carriedAt S p (endS S c b) b ≠ -1 := fun p hp ht e => hno ⟨p, hp, ht, e⟩
  have cr := fun p : Nat => carriedAt_rng (S := S) (m := (p : Int)) (s := endS S c b) (b := b)
  have hT := there_len (S := S) h0 (S 0 40).toNat
  rw [sumI_len (p := fun k => isThereB S (k : Int) low)] at hT
  have hin : sumI (fun k => b2i (!isCutB S k)) (S 0 40).toNat 0 = inOrd S := rfl
  rw [hin] at hT
  have hlen : (((List.range (S 0 40).toNat).filter (fun k : Nat => isThereB S (k : Int) low)).length : Int) = low := by
    split at hT <;> omega
  have hmemT : ∀ x ∈ (List.range (S 0 40).toNat).filter (fun k : Nat => isThereB S (k : Int) low), x < (S 0 40).toNat ∧ isThereB S (x : Int) low = true := fun x hx => by
    rw [List.mem_filter, List.mem_range] at hx
    exact hx
  have hfx : ∀ x ∈ (List.range (S 0 40).toNat).filter (fun k : Nat => isThereB S (k : Int) low), carriedAt S (x : Int) (endS S c b) b = ((carriedAt S (x : Int) (endS S c b) b).toNat : Int) := fun x hx => by
    obtain ⟨g1, g2⟩ := hmemT x hx
    have := hall x g1 g2
    have := cr x
    omega
  have nd : (((List.range (S 0 40).toNat).filter (fun k : Nat => isThereB S (k : Int) low)).map (fun k : Nat => (carriedAt S (k : Int) (endS S c b) b).toNat)).Nodup := by
    refine nodup_map (List.Pairwise.filter _ List.nodup_range) (fun x hx y hy e => ?_)
    have a1 := carriedAt_some (hfx x hx)
    have a2 := carriedAt_some (hfx y hy)
    rw [e] at a1
    have := a1.2.1.symm.trans a2.2.1
    omega
  have sub := nodup_sub (c :: ((List.range (S 0 40).toNat).filter (fun k : Nat => isThereB S (k : Int) low)).map (fun k : Nat => (carriedAt S (k : Int) (endS S c b) b).toNat)) ((List.range (S 0 47).toNat).filter (fun x => decide (endS S x b = endS S c b))) (by
    rw [List.nodup_cons]
    refine ⟨fun hm => ?_, nd⟩
    obtain ⟨x, hx, e⟩ := List.mem_map.mp hm
    have a1 := carriedAt_some (hfx x hx)
    rw [e, h51] at a1
    have := a1.2.1
    omega) (fun x hx => by
    rw [List.mem_filter, List.mem_range]
    rcases List.mem_cons.mp hx with e | hx
    · subst e; exact ⟨hc, decide_eq_true rfl⟩
    · obtain ⟨y, hy, e⟩ := List.mem_map.mp hx
      have a1 := carriedAt_some (hfx y hy)
      rw [e] at a1
      exact ⟨a1.1, decide_eq_true a1.2.2⟩)
  have hcl : callsAtS S (endS S c b) b = _ := sumI_len (p := fun x => decide (endS S x b = endS S c b)) (S 0 47).toNat
  rw [List.length_cons, List.length_map] at sub
  omega
theorem chStep_some {S : St} {i j p q : Int} {b : Bool} {o : Option Ch} : chStep S i j p q b o ≠ none := by
  unfold chStep
  cases o with
  | none => intro h; cases h
  | some c => simp only; split <;> (intro h; cases h)
theorem chQ_keep {S : St} {i j low p : Int} : ∀ (r q : Nat) (o : Option Ch), o ≠ none → chQ S i j low p r q o ≠ none := by
  intro r
  induction r with
  | zero => intro q o h; exact h
  | succ r ih =>
    intro q o h
    simp only [chQ]
    refine ih _ _ ?_
    split
    · exact chStep_some
    · exact h
theorem chQ_some {S : St} {i j low p : Int} {q0 : Nat} (h1 : isThereB S q0 low = true) (h2 : carriedAt S q0 j true = -1) : ∀ (r q : Nat) (o : Option Ch), q ≤ q0 → q0 < q + r → chQ S i j low p r q o ≠ none := by
  intro r
  induction r with
  | zero => intro q o h h'; omega
  | succ r ih =>
    intro q o h h'
    simp only [chQ]
    by_cases e : q = q0
    · subst e
      rw [h1, h2, if_pos (by decide)]
      exact chQ_keep _ _ _ chStep_some
    · exact ih _ _ (by omega) (by omega)
theorem chP_keep {S : St} {i j low : Int} : ∀ (r p : Nat) (o : Option Ch), o ≠ none → chP S i j low r p o ≠ none := by
  intro r
  induction r with
  | zero => intro q o h; exact h
  | succ r ih =>
    intro q o h
    simp only [chP]
    refine ih _ _ ?_
    split
    · exact chQ_keep _ _ _ h
    · exact h
theorem chP_some {S : St} {i j low : Int} {p0 q0 : Nat} (g1 : isThereB S p0 low = true) (g2 : carriedAt S p0 i false = -1) (h0 : q0 < (S 0 40).toNat) (h1 : isThereB S q0 low = true) (h2 : carriedAt S q0 j true = -1) : ∀ (r p : Nat) (o : Option Ch), p ≤ p0 → p0 < p + r → chP S i j low r p o ≠ none := by
  intro r
  induction r with
  | zero => intro q o h h'; omega
  | succ r ih =>
    intro p o h h'
    simp only [chP]
    by_cases e : p = p0
    · subst e
      rw [g1, g2, if_pos (by decide)]
      exact chP_keep _ _ _ (chQ_some h1 h2 _ _ _ (by omega) (by omega))
    · exact ih _ _ (by omega) (by omega)
theorem pack_some {S : St} (V : Inv S) {c : Nat} (hc : c < (S 0 47).toNat) (h51 : S 51 c = -1) {low : Int} (h0 : 0 ≤ low) (h1 : low ≤ inOrd S) (h2 : ∀ b, callsAtS S (endS S c b) b ≤ low) {counts : Bool} : (route S (fromS S c) (toS S c) 0 true low counts).1 ≠ -1 := by
  obtain ⟨p, p0, p1, p2⟩ := free_there V hc h51 false h0 h1 (h2 false)
  obtain ⟨q, q0, q1, q2⟩ := free_there V hc h51 true h0 h1 (h2 true)
  by_cases h : hunted S (fromS S c) (toS S c) 0 low = -1
  · have e : route S (fromS S c) (toS S c) 0 true low counts = (match chain S (fromS S c) (toS S c) low with | none => (-1, S) | some ch => (chMid ch, tookS S ch counts)) := if_pos ⟨h, rfl⟩
    rw [e]
    cases hch : chain S (fromS S c) (toS S c) low with
    | none => exact absurd hch (chP_some p1 p2 q0 q1 q2 _ _ _ (Nat.zero_le _) (by omega))
    | some ch =>
      obtain ⟨hp, hq, -⟩ := chain_good hch
      show chMid ch ≠ -1
      unfold chMid
      split <;> omega
  · have e : route S (fromS S c) (toS S c) 0 true low counts = (hunted S (fromS S c) (toS S c) 0 low, S) := if_neg (fun q => h q.1)
    rw [e]
    exact h
theorem calls_le {S : St} (V : Inv S) (L : Laid S) (s : Int) (b : Bool) : callsAtS S s b ≤ inOrd S := by
  have I := V.1
  obtain ⟨⟨i38, i39, i40, i41, i42, i43, i44, i45, i46, i47, i55, i60⟩, irow, iwait, igrp⟩ := id I
  have e1 : callsAtS S s b = _ := sumI_len (p := fun x => decide (endS S x b = s)) (S 0 47).toNat
  have e2 : inOrd S = _ := sumI_len (p := fun k => !isCutB S k) (S 0 40).toNat
  rw [e1, e2]
  have hm : ∀ x ∈ (List.range (S 0 47).toNat).filter (fun x => decide (endS S x b = s)), x < (S 0 47).toNat ∧ endS S x b = s ∧ 0 ≤ S 51 x ∧ S 51 x < S 0 40 ∧ isCutB S (S 51 x) = false := fun x hx => by
    rw [List.mem_filter, List.mem_range, decide_eq_true_eq] at hx
    exact ⟨hx.1, hx.2, (V.2.2.1 x hx.1).resolve_left (L x hx.1)⟩
  have := nodup_sub (((List.range (S 0 47).toNat).filter (fun x => decide (endS S x b = s))).map (fun x => (S 51 x).toNat)) ((List.range (S 0 40).toNat).filter (fun k : Nat => !isCutB S (k : Int))) (nodup_map (List.Pairwise.filter _ List.nodup_range) (fun x hx y hy e => by
    obtain ⟨x1, x2, x3, x4, x5⟩ := hm x hx
    obtain ⟨y1, y2, y3, y4, y5⟩ := hm y hy
    exact V.2.1 x y x1 y1 (by omega) (by omega) b (x2.trans y2.symm))) (fun y hy => by
    obtain ⟨x, hx, e⟩ := List.mem_map.mp hy
    obtain ⟨x1, x2, x3, x4, x5⟩ := hm x hx
    rw [List.mem_filter, List.mem_range, Bool.not_eq_true', ← e, Int.toNat_of_nonneg x3]
    exact ⟨by omega, x5⟩)
  rw [List.length_map] at this
  omega
theorem fewL_le {S : St} {B : Int} (h : ∀ (s : Int) (b : Bool), callsAtS S s b ≤ B) : ∀ (r k : Nat) (e : Int), e ≤ B → fewL S r k e ≤ B := by
  intro r
  induction r with
  | zero => intro k e he; exact he
  | succ r ih =>
    intro k e he
    simp only [fewL]
    refine ih _ _ ?_
    have := h k true
    have := h k false
    unfold maxI
    split <;> split <;> omega
theorem fewL_ge {S : St} : ∀ (r k : Nat) (e : Int), e ≤ fewL S r k e ∧ ∀ (s : Nat) (b : Bool), k ≤ s → s < k + r → callsAtS S s b ≤ fewL S r k e := by
  intro r
  induction r with
  | zero => intro k e; exact ⟨Int.le_refl _, fun s b h h' => by omega⟩
  | succ r ih =>
    intro k e
    simp only [fewL]
    obtain ⟨a, h⟩ := ih (k + 1) (maxI (callsAtS S k true) (maxI (callsAtS S k false) e))
    have m1 : e ≤ maxI (callsAtS S k true) (maxI (callsAtS S k false) e) := by unfold maxI; split <;> split <;> omega
    have m2 : callsAtS S k true ≤ maxI (callsAtS S k true) (maxI (callsAtS S k false) e) := by unfold maxI; split <;> split <;> omega
    have m3 : callsAtS S k false ≤ maxI (callsAtS S k true) (maxI (callsAtS S k false) e) := by unfold maxI; split <;> split <;> omega
    refine ⟨by omega, fun s b h1 h2 => ?_⟩
    by_cases e' : s = k
    · subst e'
      cases b <;> omega
    · exact h s b (by omega) (by omega)
theorem callsAt_lifted {S S' : St} (h47 : S' 0 47 = S 0 47) (h39 : S' 0 39 = S 0 39) (h49 : ∀ c, S' 49 c = S 49 c) (h50 : ∀ c, S' 50 c = S 50 c) (s : Int) (b : Bool) : callsAtS S' s b = callsAtS S s b := by
  unfold callsAtS
  rw [h47]
  refine sumI_congr _ _ (fun x _ _ => ?_)
  unfold endS fromS toS
  rw [h39, h49, h50]
/-- where packing stands -/
def PackI (low : Int) (r c : Nat) (S : St) : Prop := Inv S ∧ c + r = (S 0 47).toNat ∧ (∀ x, x < c → S 51 x ≠ -1) ∧ (∀ x, x < r → S 51 (c + x) = -1) ∧ 0 ≤ low ∧ low ≤ inOrd S ∧ ∀ (x : Nat) (b : Bool), x < (S 0 47).toNat → callsAtS S (endS S x b) b ≤ low
def packStep (low : Int) (c : Nat) (S : St) : St := up2 (route S (fromS S c) (toS S c) 0 true low false).2 51 c (route S (fromS S c) (toS S c) 0 true low false).1
theorem PackI.some {low : Int} {r c : Nat} {S : St} (h : PackI low (r + 1) c S) : (route S (fromS S c) (toS S c) 0 true low false).1 ≠ -1 := by
  obtain ⟨V, h, hl, hf, l0, l1, l2⟩ := h
  have hm := hf 0 (by omega)
  rw [Nat.add_zero] at hm
  exact pack_some V (by omega) hm l0 l1 (fun b => l2 c b (by omega)) (counts := false)
theorem PackI.step {low : Int} {r c : Nat} {S : St} (h : PackI low (r + 1) c S) : PackI low r (c + 1) (packStep low c S) ∧ ∀ f x, f ≠ 51 → packStep low c S f x = S f x := by
  have hn := h.some
  obtain ⟨V, h, hl, hf, l0, l1, l2⟩ := h
  have hc : c < (S 0 47).toNat := by omega
  have hm := hf 0 (by omega)
  rw [Nat.add_zero] at hm
  unfold packStep
  obtain ⟨a1, a2, a3, a4⟩ := route_ok V (i := fromS S c) (j := toS S c) (rule := 0) (chains := true) (low := low) (counts := false)
  have off : ∀ f x, f ≠ 51 → (route S (fromS S c) (toS S c) 0 true low false).2 f x = S f x := fun f x hf => route_off hf
  generalize route S (fromS S c) (toS S c) 0 true low false = R at *
  obtain ⟨m, S1⟩ := R
  simp only at hn a1 a2 a3 a4 off ⊢
  rcases a4 with h' | ⟨b1, b2, b3, b4, b5⟩
  · exact absurd h'.1 hn
  · have e0 : ∀ k, S1 0 k = S 0 k := fun k => off 0 k (by decide)
    have ef : fromS S1 c = fromS S c := by unfold fromS; rw [e0, off 49 c (by decide)]
    have et : toS S1 c = toS S c := by unfold toS; rw [e0, off 50 c (by decide)]
    have V1 : Inv (up2 S1 51 c m) := Inv.lay a1 (by rw [e0]; exact hc) ((a3 c).mpr hm) (by rw [e0]; exact ⟨b1, b2⟩) (by have := there_cut b3; unfold isCutB at this ⊢; rw [e0]; exact this) (by rw [ef]; exact b4) (by rw [et]; exact b5)
    have off1 : ∀ f x, f ≠ 51 → up2 S1 51 c m f x = S f x := fun f x hf => (up2_ne (Or.inl hf)).trans (off f x hf)
    have ein : inOrd (up2 S1 51 c m) = inOrd S := by
      unfold inOrd isCutB
      rw [off1 0 40 (by decide), off1 0 41 (by decide)]
    have eend : ∀ (x : Nat) (b : Bool), endS (up2 S1 51 c m) x b = endS S x b := fun x b => by
      unfold endS fromS toS
      rw [off1 0 39 (by decide), off1 49 x (by decide), off1 50 x (by decide)]
    refine ⟨⟨V1, by rw [off1 0 47 (by decide)]; omega, fun x hx => ?_, fun x hx => ?_, l0, by rw [ein]; exact l1, fun x b hx => ?_⟩, off1⟩
    · by_cases e : x = c
      · rw [e, up2_at]; exact hn
      · rw [up2_ne (Or.inr e)]; intro q; exact hl x (by omega) ((a3 x).mp q)
    · rw [up2_ne (Or.inr (by omega)), a3, show c + 1 + x = c + (x + 1) by omega]
      exact hf (x + 1) (by omega)
    · rw [off1 0 47 (by decide)] at hx
      rw [callsAt_lifted (off1 0 47 (by decide)) (off1 0 39 (by decide)) (fun c => off1 49 c (by decide)) (fun c => off1 50 c (by decide)), eend]
      exact l2 x b hx
theorem packL_ok {low : Int} : ∀ (r c : Nat) (S : St), PackI low r c S → Inv (packL low r c S) ∧ Laid (packL low r c S) ∧ (∀ f x, f ≠ 51 → packL low r c S f x = S f x) := by
  intro r
  induction r with
  | zero => intro c S h; exact ⟨h.1, fun x hx => h.2.2.1 x (by have := h.2.1; simp only [packL] at hx; omega), fun _ _ _ => rfl⟩
  | succ r ih =>
    intro c S h
    obtain ⟨d1, d2⟩ := h.step
    obtain ⟨x1, x2, x3⟩ := ih (c + 1) _ d1
    exact ⟨x1, x2, fun f x hf => (x3 f x hf).trans (d2 f x hf)⟩
theorem movedL_ok {old : Nat → Int} : ∀ (r c : Nat) (e : Int) (S : St), (∀ f x, f ≠ 54 → (movedL old r c e S).2 f x = S f x) ∧ (e ≤ (movedL old r c e S).1 ∧ (movedL old r c e S).1 ≤ e + r) := by
  intro r
  induction r with
  | zero => intro c e S; exact ⟨fun _ _ _ => rfl, by simp only [movedL]; omega⟩
  | succ r ih =>
    intro c e S
    simp only [movedL]
    split
    · obtain ⟨a, b⟩ := ih (c + 1) e S
      exact ⟨a, by omega⟩
    · obtain ⟨a, b⟩ := ih (c + 1) (e + 1) (up2 S 54 c (S 54 c + 1))
      exact ⟨fun f x h => (a f x h).trans (up2_ne (Or.inl h)), by omega⟩
theorem few_rng {S : St} (V : Inv S) (L : Laid S) : (0 ≤ fewest S ∧ fewest S ≤ inOrd S) ∧ ∀ (x : Nat) (b : Bool), x < (S 0 47).toNat → callsAtS S (endS S x b) b ≤ fewest S := by
  have I := V.1
  obtain ⟨⟨i38, i39, i40, i41, i42, i43, i44, i45, i46, i47, i55, i60⟩, irow, iwait, igrp⟩ := id I
  have io := inOrd_rng (S := S)
  refine ⟨⟨(fewL_ge _ _ _).1, fewL_le (fun s b => calls_le V L s b) _ _ _ io.1⟩, fun x b hx => ?_⟩
  obtain ⟨r4, -⟩ := V.2.2.2.2.2.1 x hx
  have r4' := (V.2.2.2.2.2.1 x hx).2
  obtain ⟨-, r49, r50, -⟩ := irow x hx
  have s1 := stage_rng I (s := S 49 x) ⟨r49.1, r4⟩
  have s2 := stage_rng I (s := S 50 x) ⟨r50.1, r4'⟩
  have he : 0 ≤ endS S x b ∧ endS S x b < S 0 38 := by unfold endS; split <;> assumption
  have := (fewL_ge (S := S) (S 0 38).toNat 0 0).2 (endS S x b).toNat b (Nat.zero_le _) (by omega)
  rw [Int.toNat_of_nonneg he.1] at this
  exact this
theorem pack_start {S : St} (V : Ok S) : PackI (fewest S) (S 0 47).toNat 0 (lifted S (fun _ => true)) := by
  obtain ⟨f1, f2⟩ := few_rng V.1 V.2.1
  refine ⟨V.1.lift _, by rw [lifted_off (by decide)]; omega, fun x hx => absurd hx (Nat.not_lt_zero _), fun x hx => by rw [Nat.zero_add, lifted_in hx]; rfl, f1.1, ?_, fun x b hx => ?_⟩
  · have : inOrd (lifted S (fun _ => true)) = inOrd S := by
      unfold inOrd isCutB
      rw [lifted_off (by decide), lifted_off (by decide)]
    rw [this]
    exact f1.2
  · rw [lifted_off (by decide)] at hx
    rw [callsAt_lifted (lifted_off (by decide)) (lifted_off (by decide)) (fun c => lifted_off (by decide)) (fun c => lifted_off (by decide)), lifted_end]
    exact f2 x b hx
theorem pack1_ok {S : St} (V : Ok S) : Inv (packL (fewest S) (S 0 47).toNat 0 (lifted S (fun _ => true))) ∧ Laid (packL (fewest S) (S 0 47).toNat 0 (lifted S (fun _ => true))) ∧ (∀ f x, f ≠ 51 → packL (fewest S) (S 0 47).toNat 0 (lifted S (fun _ => true)) f x = S f x) := by
  obtain ⟨a, b, c⟩ := packL_ok _ _ _ (pack_start V)
  exact ⟨a, b, fun f x hf => (c f x hf).trans (lifted_off hf)⟩
theorem Ok.pks {S : St} (V : Ok S) : Ok (packs S).2 ∧ (packs S).2 0 44 = S 0 44 ∧ (0 ≤ (packs S).1 ∧ (packs S).1 ≤ 18) := by
  have I := V.1.1
  obtain ⟨⟨i38, i39, i40, i41, i42, i43, i44, i45, i46, i47, i55, i60⟩, irow, iwait, igrp⟩ := id I
  obtain ⟨a, b, c⟩ := pack1_ok V
  obtain ⟨x, y⟩ := movedL_ok (old := S 51) (S 0 47).toNat 0 0 (packL (fewest S) (S 0 47).toNat 0 (lifted S (fun _ => true)))
  have off : ∀ f c, f ≠ 51 → f ≠ 54 → (packs S).2 f c = S f c := fun f c' h1 h2 => (x f c' h2).trans (c f c' h1)
  refine ⟨⟨a.ext (fun f c h _ => x f c h), b.eq (x _ _ (by decide)) (fun c => x _ _ (by decide)), V.2.2.eq (off _ _ (by decide) (by decide)) (off _ _ (by decide) (by decide)) (off _ _ (by decide) (by decide)) (off _ _ (by decide) (by decide)) (off _ _ (by decide) (by decide))⟩, off _ _ (by decide) (by decide), ?_⟩
  show 0 ≤ (movedL _ _ _ _ _).1 ∧ (movedL _ _ _ _ _).1 ≤ 18
  omega
