/-! THE EXCHANGE, 27: sums -/
section SUMS
variable {Z : ZT} {d : Nat} {G : GH} {Q : TR → GH → Prop} {e b : Nat} {S S' T T' : St}
theorem load_pos {m : Int} : 0 < loadOf S m ↔ ∃ c : Nat, c < (S 0 47).toNat ∧ S 51 c = m := by
  unfold loadOf
  rw [sumI_len]
  constructor
  · intro h
    obtain ⟨c, hc⟩ := List.exists_mem_of_length_pos (l := (List.range (S 0 47).toNat).filter (fun c => decide (S 51 c = m))) (by omega)
    obtain ⟨h1, h2⟩ := List.mem_filter.mp hc
    exact ⟨c, List.mem_range.mp h1, of_decide_eq_true h2⟩
  · rintro ⟨c, h1, h2⟩
    have : c ∈ (List.range (S 0 47).toNat).filter (fun c => decide (S 51 c = m)) := List.mem_filter.mpr ⟨List.mem_range.mpr h1, decide_eq_true h2⟩
    have := List.length_pos_of_mem this
    omega
theorem great_ok : ∀ (r c : Nat) (x : Int), x ≤ greatL S r c x ∧ (∀ y : Nat, c ≤ y → y < c + r → S 51 y ≤ greatL S r c x) ∧ (greatL S r c x = x ∨ ∃ y : Nat, c ≤ y ∧ y < c + r ∧ S 51 y = greatL S r c x) := by
  intro r
  induction r with
  | zero => intro c x; exact ⟨Int.le_refl _, fun y h1 h2 => by omega, Or.inl rfl⟩
  | succ r ih =>
    intro c x
    obtain ⟨i1, i2, i3⟩ := ih (c + 1) (if x < S 51 c then S 51 c else x)
    have e : greatL S (r + 1) c x = greatL S r (c + 1) (if x < S 51 c then S 51 c else x) := rfl
    rw [e]
    refine ⟨?_, fun y h1 h2 => ?_, ?_⟩
    · revert i1; split <;> intro i1 <;> omega
    · by_cases h : y = c
      · subst h; revert i1; split <;> intro i1 <;> omega
      · exact i2 y (by omega) (by omega)
    · rcases i3 with i3 | ⟨y, y1, y2, y3⟩
      · by_cases h : x < S 51 c
        · rw [if_pos h] at i3 ⊢
          exact Or.inr ⟨c, Nat.le_refl _, by omega, i3.symm⟩
        · rw [if_neg h] at i3 ⊢
          exact Or.inl i3
      · exact Or.inr ⟨y, by omega, by omega, y3⟩
/-- the greatest middle in use -/
theorem xc_greatestUsed (V : Inv S) (R : Rep Z G e b S S) (q : ∀ G', Qk b G G' → Q (.inl (some (tI (greatL S (S 0 47).toNat 0 (-1))))) G') : TC Z (d + 8) mi_X2_greatestUsed [tR (some e)] G Q := by
  have r40 := V.r40
  have r47 := V.r47
  obtain ⟨g1, g2, g3⟩ := great_ok (S := S) (S 0 47).toNat 0 (-1)
  have loop : ∀ (r k : Nat) (x : Int) (G1 : GH), k + r = (S 0 40).toNat → Qk b G G1 → -1 ≤ x → x < (k : Int) → (x = -1 ∨ 0 < loadOf S x) → (∀ m : Nat, m < k → 0 < loadOf S (m : Int) → (m : Int) ≤ x) →
      TW Z mi_X2_greatestUsed (d + 8) 4 [some (tR (some e)), some (tI x), some (tI (k : Int))] [] G1 Q := by
    intro r
    induction r with
    | zero =>
      intro k x G1 hk K h1 h2 h3 h4
      have R1 := R.qk K
      refine r_X2_greatestUsed_4 ⟨R1.k, by omega, by rw [R1.f40]; omega, fun _ => ?_, fun hn => by rw [R1.f40] at hn; omega⟩
      have : x = greatL S (S 0 47).toNat 0 (-1) := by
        apply Int.le_antisymm
        · rcases h3 with h3 | h3
          · omega
          · obtain ⟨c, c1, c2⟩ := load_pos.mp h3
            have := g2 c (Nat.zero_le _) (by omega)
            omega
        · rcases g3 with g3 | ⟨y, y1, y2, y3⟩
          · omega
          · have ry := V.2.2.1 y (by omega)
            rcases ry with ry | ry
            · omega
            · have hl : 0 < loadOf S (S 51 y) := load_pos.mpr ⟨y, by omega, rfl⟩
              obtain ⟨m, hm⟩ : ∃ m : Nat, S 51 y = (m : Int) := ⟨(S 51 y).toNat, by omega⟩
              rw [hm] at hl
              have := h4 m (by omega) hl
              omega
      rw [this]
      exact q G1 K
    | succ r ih =>
      intro k x G1 hk K h1 h2 h3 h4
      have R1 := R.qk K
      have ll := load_le V (m := (k : Int)) (by omega)
      refine r_X2_greatestUsed_4 ⟨R1.k, by omega, by rw [R1.f40]; omega, fun hn => by rw [R1.f40] at hn; omega, fun _ => xc_load V R1 (by omega) (fun G2 K2 => r_X2_greatestUsed_17 ⟨by omega, fun hl => ?_, fun hl => ?_⟩)⟩
      · refine ih (k + 1) x G2 (by omega) (K.trans K2) h1 (by omega) h3 (fun m hm hl' => ?_)
        by_cases hmk : m = k
        · subst hmk; omega
        · exact h4 m (by omega) hl'
      · refine ih (k + 1) (k : Int) G2 (by omega) (K.trans K2) (by omega) (by omega) (Or.inr (by omega)) (fun m hm _ => by omega)
  exact c_X2_greatestUsed (loop (S 0 40).toNat 0 (-1) G (by omega) Qk.rf (Int.le_refl _) (by omega) (Or.inl rfl) (fun m hm => by omega))
/-- idle subscribers of a switch -/
theorem xc_idleAt {i : Nat} (V : Inv S) (R : Rep Z G e b S S) (hi : (i : Int) < S 0 38) (q : Q (.inl (some (tI (idleAtS S (i : Int))))) G) : TC Z (d + 7) mi_X2_idleAt [tR (some e), tI (i : Int)] G Q := by
  have r38 := V.r38
  have r39 := V.r39
  have s36 := sub36 V.1
  have hm : (i : Int) * S 0 39 + S 0 39 ≤ S 0 38 * S 0 39 := by
    have h := Int.mul_le_mul_of_nonneg_right (show (i : Int) + 1 ≤ S 0 38 by omega) (show 0 ≤ S 0 39 by omega)
    rw [Int.add_mul, Int.one_mul] at h
    exact h
  have h0 : 0 ≤ (i : Int) * S 0 39 := Int.mul_nonneg (by omega) (by omega)
  have loop : ∀ (r k : Nat) (x : Int), k + r = (S 0 39).toNat → 0 ≤ x → x ≤ k → x + sumI (fun k => b2i (idleB S ((i : Int) * S 0 39 + (k : Int)))) r k = idleAtS S (i : Int) → TW Z mi_X2_idleAt (d + 7) 9 [some (tR (some e)), some (tI (i : Int)), some (tI x), some (tI ((i : Int) * S 0 39 + (k : Int)))] [] G Q := by
    intro r
    induction r with
    | zero =>
      intro k x hk x0 x1 hf
      have e1 : x = idleAtS S (i : Int) := by rw [← hf]; show x = x + 0; omega
      refine r_X2_idleAt_9 ⟨R.k, by omega, by rw [R.f39]; omega, fun _ => ?_, fun hn => by rw [R.f39] at hn; omega⟩
      rw [e1]
      exact q
    | succ r ih =>
      intro k x hk x0 x1 hf
      have hf : x + (b2i (idleB S ((i : Int) * S 0 39 + (k : Int))) + sumI (fun k => b2i (idleB S ((i : Int) * S 0 39 + (k : Int)))) r (k + 1)) = idleAtS S (i : Int) := hf
      obtain ⟨s, hs⟩ : ∃ s : Nat, (i : Int) * S 0 39 + (k : Int) = (s : Int) := ⟨((i : Int) * S 0 39 + (k : Int)).toNat, by omega⟩
      have e2 : (i : Int) * S 0 39 + (((k + 1 : Nat)) : Int) = (s : Int) + 1 := by omega
      have i1 := ih (k + 1)
      rw [e2] at i1
      rw [hs] at hf ⊢
      refine r_X2_idleAt_9 ⟨R.k, by omega, by rw [R.f39]; omega, fun hn => by rw [R.f39] at hn; omega, fun _ => xc_isIdle V R (by omega) (r_X2_idleAt_29 ?_)⟩
      have e0 : b2i false = 0 := rfl
      have e3 : b2i true = 1 := rfl
      cases hb : idleB S (s : Int)
      · rw [hb, e0] at hf
        exact ⟨by decide, fun _ => i1 x (by omega) x0 (by omega) (by omega), fun hn => absurd rfl hn⟩
      · rw [hb, e3] at hf
        exact ⟨by decide, fun hn => absurd hn (by decide), fun _ => i1 (x + 1) (by omega) (by omega) (by omega) (by omega)⟩
  refine c_X2_idleAt ⟨R.k, ?_⟩
  rw [R.f39]
  have := loop (S 0 39).toNat 0 0 (by omega) (Int.le_refl _) (Int.le_refl _) (by show 0 + idleAtS S (i : Int) = _; omega)
  rw [show (i : Int) * S 0 39 + ((0 : Nat) : Int) = (i : Int) * S 0 39 by omega] at this
  exact this
theorem idleAt6 {i : Int} (V : Inv S) : 0 ≤ idleAtS S i ∧ idleAtS S i ≤ 6 := by
  have r39 := V.r39
  have h1 := sum_le_n (p := fun k : Nat => idleB S (i * S 0 39 + (k : Int))) (S 0 39).toNat
  have h0 := sum_mono (f := fun k : Nat => b2i (idleB S (i * S 0 39 + (k : Int)))) (fun k => (b2i_01 _).1) (S 0 39).toNat 0
  rw [Nat.zero_add] at h0
  have h0' : 0 ≤ sumI (fun k : Nat => b2i (idleB S (i * S 0 39 + (k : Int)))) (S 0 39).toNat 0 := h0
  unfold idleAtS
  omega
theorem pairs36 {i j : Int} (V : Inv S) : -1 ≤ pairsS S i j ∧ pairsS S i j ≤ 36 := by
  have a := idleAt6 (i := i) V
  have b := idleAt6 (i := j) V
  unfold pairsS
  split
  · have h1 : idleAtS S i * (idleAtS S i - 1) ≤ 6 * 5 := by
      have h : idleAtS S i = 0 ∨ idleAtS S i = 1 ∨ idleAtS S i = 2 ∨ idleAtS S i = 3 ∨ idleAtS S i = 4 ∨ idleAtS S i = 5 ∨ idleAtS S i = 6 := by omega
      rcases h with h | h | h | h | h | h | h <;> rw [h] <;> decide
    have h2 : 0 ≤ idleAtS S i * (idleAtS S i - 1) := by
      have h : idleAtS S i = 0 ∨ idleAtS S i = 1 ∨ idleAtS S i = 2 ∨ idleAtS S i = 3 ∨ idleAtS S i = 4 ∨ idleAtS S i = 5 ∨ idleAtS S i = 6 := by omega
      rcases h with h | h | h | h | h | h | h <;> rw [h] <;> decide
    omega
  · have h1 := Int.mul_le_mul a.2 b.2 b.1 (by omega)
    have h2 := Int.mul_nonneg a.1 b.1
    omega
/-- pairs that would be blocked -/
theorem xc_blocked (V : Inv S) (R : Rep Z G e b S S) (E : EnvE Z G) (q : ∀ G', Md (fun c => c = b + 9) G G' → gn G' ≤ gn G + 17496 → gs G' ≤ gs G + 99144 → Q (.inl (some (tI (blockedPairs S)))) G') : TC Z (d + 12) mi_X2_blocked [tR (some e)] G Q := by
  have r38 := V.r38
  have inner : ∀ (i : Nat), (i : Int) < S 0 38 → ∀ (r j : Nat) (x : Int) (G1 : GH) (o4 : Option Value), j + r = (S 0 38).toNat → Md (fun c => c = b + 9) G G1 → gn G1 ≤ gn G + 486 * (6 * i + j) → gs G1 ≤ gs G + 2754 * (6 * i + j) → 0 ≤ x → x ≤ 36 * (6 * i + j) →
      (∀ (G2 : GH) (x' : Int) (o3 o4 : Option Value), Md (fun c => c = b + 9) G G2 → gn G2 ≤ gn G + 486 * (6 * (i + 1)) → gs G2 ≤ gs G + 2754 * (6 * (i + 1)) → 0 ≤ x' → x' ≤ 36 * (6 * (i + 1)) → x' = x + sumI (fun j => if 0 < pairsS S (i : Int) (j : Int) ∧ blockedB S (i : Int) (j : Int) = true then pairsS S (i : Int) (j : Int) else 0) r j → TW Z mi_X2_blocked (d + 12) 4 [some (tR (some e)), some (tI x'), some (tI ((i : Int) + 1)), o3, o4] [] G2 Q) →
      TW Z mi_X2_blocked (d + 12) 14 [some (tR (some e)), some (tI x), some (tI (i : Int)), some (tI (j : Int)), o4] [] G1 Q := by
    intro i hi r
    induction r with
    | zero =>
      intro j x G1 o4 hj m n1 s1 x0 x1 k
      have R1 := (R.m9 m).1
      refine r_X2_blocked_14 ⟨R1.k, by omega, by rw [R1.f38]; omega, fun _ => k G1 x _ _ m (by omega) (by omega) x0 (by omega) (by show x = x + 0; omega), fun hn => by rw [R1.f38] at hn; omega⟩
    | succ r ih =>
      intro j x G1 o4 hj m n1 s1 x0 x1 k
      obtain ⟨R1, -, cA1⟩ := R.m9 m
      have ia := idleAt6 (i := (i : Int)) V
      have ja := idleAt6 (i := (j : Int)) V
      have pr := pairs36 (i := (i : Int)) (j := (j : Int)) V
      -- the pair is looked at
      have go : ∀ (o : Option Value), ((inR (pairsS S (i : Int) (j : Int))) ∧ ((pairsS S (i : Int) (j : Int) ≤ 0 → TW Z mi_X2_blocked (d + 12) 14 [some (tR (some e)), some (tI x), some (tI (i : Int)), some (tI ((j : Int) + 1)), some (tI (pairsS S (i : Int) (j : Int)))] [] G1 Q) ∧ (¬ pairsS S (i : Int) (j : Int) ≤ 0 → (gK G1 e = 2) ∧ TC Z (d + 11) mi_X2_isBlocked [tR (some e), tI (i : Int), tI (j : Int)] G1 (KQ Z mi_X2_blocked (d + 12) 64 67 [some (tR (some e)), some (tI x), some (tI (i : Int)), some (tI (j : Int)), some (tI (pairsS S (i : Int) (j : Int)))] [] Q)))) := by
        intro o
        refine ⟨by omega, fun hle => ?_, fun hgt => ⟨R1.k, xc_blk V R1 (E.ask R m) hi (by omega) (fun G2 m2 n2 s2 _ => r_X2_blocked_67 ?_)⟩⟩
        · refine ih (j + 1) x G1 _ (by omega) m (by omega) (by omega) x0 (by omega) (fun G3 x' o3 o4 m3 n3 s3 y0 y1 hx => k G3 x' o3 o4 m3 n3 s3 y0 y1 ?_)
          rw [hx]
          show _ = x + ((if 0 < pairsS S (i : Int) (j : Int) ∧ blockedB S (i : Int) (j : Int) = true then pairsS S (i : Int) (j : Int) else 0) + _)
          rw [if_neg (fun z => by omega)]
          omega
        · have bn : gn G2 ≤ gn G + 486 * (6 * i + (j + 1)) := by
            rw [← Nat.add_assoc (6 * i), Nat.mul_succ, ← Nat.add_assoc]
            exact Nat.le_trans n2 (Nat.add_le_add_right n1 486)
          have bs : gs G2 ≤ gs G + 2754 * (6 * i + (j + 1)) := by
            rw [← Nat.add_assoc (6 * i), Nat.mul_succ, ← Nat.add_assoc]
            exact Nat.le_trans s2 (Nat.add_le_add_right s1 2754)
          cases hb : blockedB S (i : Int) (j : Int)
          · refine ⟨by decide, fun _ => ?_, fun hn => absurd rfl hn⟩
            refine ih (j + 1) x G2 _ (by omega) (m.trans m2) bn bs x0 (by omega) (fun G3 x' o3 o4 m3 n3 s3 y0 y1 hx => k G3 x' o3 o4 m3 n3 s3 y0 y1 ?_)
            rw [hx]
            show _ = x + ((if 0 < pairsS S (i : Int) (j : Int) ∧ blockedB S (i : Int) (j : Int) = true then pairsS S (i : Int) (j : Int) else 0) + _)
            rw [if_neg (fun z => by rw [hb] at z; cases z.2)]
            omega
          · refine ⟨by decide, fun hn => absurd hn (by decide), fun _ => ?_⟩
            refine ih (j + 1) (x + pairsS S (i : Int) (j : Int)) G2 _ (by omega) (m.trans m2) bn bs (by omega) (by omega) (fun G3 x' o3 o4 m3 n3 s3 y0 y1 hx => k G3 x' o3 o4 m3 n3 s3 y0 y1 ?_)
            rw [hx]
            show _ = x + ((if 0 < pairsS S (i : Int) (j : Int) ∧ blockedB S (i : Int) (j : Int) = true then pairsS S (i : Int) (j : Int) else 0) + _)
            rw [if_pos ⟨by omega, hb⟩]
            omega
      refine r_X2_blocked_14 ⟨R1.k, by omega, by rw [R1.f38]; omega, fun hn => by rw [R1.f38] at hn; omega, fun _ => ⟨by omega, fun hne => ?_, fun he => ?_⟩⟩
      · refine xc_idleAt (d := d + 4) V R1 hi (r_X2_blocked_48 ⟨R1.k, xc_idleAt (d := d + 4) V R1 (by omega) (r_X2_blocked_53 ?_)⟩)
        have := go none
        unfold pairsS at this
        rw [if_neg hne] at this
        exact this
      · refine xc_idleAt (d := d + 4) V R1 hi (r_X2_blocked_32 ⟨R1.k, xc_idleAt (d := d + 4) V R1 hi (r_X2_blocked_37 ?_)⟩)
        have := go none
        unfold pairsS at this
        rw [if_pos he] at this
        exact this
  have outer : ∀ (r i : Nat) (x : Int) (G1 : GH) (o3 o4 : Option Value), i + r = (S 0 38).toNat → Md (fun c => c = b + 9) G G1 → gn G1 ≤ gn G + 486 * (6 * i) → gs G1 ≤ gs G + 2754 * (6 * i) → 0 ≤ x → x ≤ 36 * (6 * i) → x + sumI (fun i => sumI (fun j => if 0 < pairsS S (i : Int) (j : Int) ∧ blockedB S (i : Int) (j : Int) = true then pairsS S (i : Int) (j : Int) else 0) (S 0 38).toNat 0) r i = blockedPairs S →
      TW Z mi_X2_blocked (d + 12) 4 [some (tR (some e)), some (tI x), some (tI (i : Int)), o3, o4] [] G1 Q := by
    intro r
    induction r with
    | zero =>
      intro i x G1 o3 o4 hi m n1 s1 x0 x1 hf
      have R1 := (R.m9 m).1
      have e1 : x = blockedPairs S := by rw [← hf]; show x = x + 0; omega
      refine r_X2_blocked_4 ⟨R1.k, by omega, by rw [R1.f38]; omega, fun _ => ?_, fun hn => by rw [R1.f38] at hn; omega⟩
      rw [e1]
      exact q G1 m (by omega) (by omega)
    | succ r ih =>
      intro i x G1 o3 o4 hi m n1 s1 x0 x1 hf
      have R1 := (R.m9 m).1
      refine r_X2_blocked_4 ⟨R1.k, by omega, by rw [R1.f38]; omega, fun hn => by rw [R1.f38] at hn; omega, fun _ => ?_⟩
      refine inner i (by omega) (S 0 38).toNat 0 x G1 o4 (by omega) m (by omega) (by omega) x0 (by omega) (fun G2 x' o3 o4 m2 n2 s2 y0 y1 hx => ih (i + 1) x' G2 o3 o4 (by omega) m2 n2 s2 y0 y1 ?_)
      rw [hx, ← hf]
      show _ = x + (sumI (fun j => if 0 < pairsS S (i : Int) (j : Int) ∧ blockedB S (i : Int) (j : Int) = true then pairsS S (i : Int) (j : Int) else 0) (S 0 38).toNat 0 + _)
      omega
  exact c_X2_blocked (outer (S 0 38).toNat 0 0 G none none (by omega) Md.rf (by omega) (by omega) (Int.le_refl _) (by omega) (by show 0 + blockedPairs S = _; omega))
end SUMS
