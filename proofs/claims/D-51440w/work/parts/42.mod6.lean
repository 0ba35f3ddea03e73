/-! THE MODEL'S METHODS, 6: questions -/
theorem mc_refuse {Z : ZT} {d : Nat} {G : GH} {Q : TR → GH → Prop} {m : Nat} {S X : St} {k : Int} (hM : MOK G m) (q : Q (.inl (some (tI 0))) (pM G m S (up2 X 0 31 k))) : TC Z (d + 1) mi_X5_refuse [tR (some m), tI k] (pM G m S X) Q := c_X5_refuse hM q
/-- the same but for scratch; the code is given -/
def Xp (X X' : St) (code : Int) : Prop := X' 0 31 = code ∧ ∀ f c : Nat, f ≠ 70 → f ≠ 71 → f ≠ 76 → (f ≠ 66 ∨ c < 3520) → (f ≠ 0 ∨ (c ≠ 31 ∧ (c < 72 ∨ 75 < c) ∧ c ≠ 83)) → X' f c = X f c
theorem Xp.a {X : St} {k : Int} : Xp X (up2 X 0 31 k) k := ⟨up2_at, fun f c _ _ _ _ h => up2_ne (by omega)⟩
theorem Xp.b {X : St} {j k : Int} : Xp X (up2 (up2 X 0 31 j) 0 31 k) k := ⟨up2_at, fun f c _ _ _ _ h => (up2_ne (by omega)).trans (up2_ne (by omega))⟩
theorem Xp.w {X X' : St} {k : Int} (h : Xw (up2 X 0 31 k) X') : Xp X X' k := ⟨(h 0 31 (by decide) (by decide) (by decide) (by decide)).trans up2_at, fun f c h1 h2 h3 h4 h5 => (h f c h1 h2 h3 (by omega)).trans (up2_ne (by omega))⟩
theorem Xp.s {X X' : St} {k : Int} (h : Xs (up2 X 0 31 k) X') : Xp X X' k := Xp.w h.w
/-- the same in what an image keeps -/
def Sg (S S' : St) : Prop := ∀ f c : Nat, iOff f c < 261 → S' f c = S f c
theorem Sg.rfl' {S : St} : Sg S S := fun _ _ _ => rfl
theorem Sg.symm {S S' : St} (h : Sg S S') : Sg S' S := fun f c k => (h f c k).symm
theorem Sg.trans {A B C : St} (h : Sg A B) (k : Sg B C) : Sg A C := fun f c j => (k f c j).trans (h f c j)
/-- what is to be shown of a question's answer -/
def QC (G : GH) (m : Nat) (S X : St) (a : Int × Int) (Q : TR → GH → Prop) : Prop := ∀ S' X' : St, Sg S S' → Xp X X' a.1 → Q (.inl (some (tI a.2))) (pM G m S' X')
theorem mc_noSubscriber {Z : ZT} {d : Nat} {G : GH} {Q : TR → GH → Prop} {m : Nat} {S X : St} {s : Int} (hM : MOK G m) (I : Rg S) (hs : inR s) (q : Q (.inl (some (tI (b2i (!decide (subOK S s)))))) (pM G m S X)) : TC Z (d + 2) mi_X5_noSubscriber [tR (some m), tI s] (pM G m S X) Q := by
  obtain ⟨⟨i38, i39, i40, i41, i42, i43, i44, i45, i46, i47, i55, i60⟩, irow, iwait, igrp⟩ := id I
  have s36 := sub36 I
  refine c_X5_noSubscriber hM ⟨hs, fun h => ?_, fun h => c_X5_subscribers hM (r_X5_noSubscriber_9 hM ⟨hs, by omega, fun h2 => ?_, fun h2 => ?_⟩)⟩
  · have e : decide (subOK S s) = false := decide_eq_false (fun k => by unfold subOK at k; omega)
    rw [e] at q; exact q
  · have e : decide (subOK S s) = true := decide_eq_true ⟨by omega, by omega⟩
    rw [e] at q; exact q
  · have e : decide (subOK S s) = false := decide_eq_false (fun k => by unfold subOK at k; omega)
    rw [e] at q; exact q
theorem mc_noSwitch {Z : ZT} {d : Nat} {G : GH} {Q : TR → GH → Prop} {m : Nat} {S X : St} {s : Int} (hM : MOK G m) (I : Rg S) (hs : inR s) (q : Q (.inl (some (tI (b2i (!decide (swOK S s)))))) (pM G m S X)) : TC Z (d + 1) mi_X5_noSwitch [tR (some m), tI s] (pM G m S X) Q := by
  obtain ⟨⟨i38, i39, i40, i41, i42, i43, i44, i45, i46, i47, i55, i60⟩, irow, iwait, igrp⟩ := id I
  by_cases e : swOK S s
  · rw [decide_eq_true e] at q
    unfold swOK at e
    exact c_X5_noSwitch hM ⟨hs, fun h => by omega, fun h => ⟨by omega, fun _ => q, fun h2 => by omega⟩⟩
  · rw [decide_eq_false e] at q
    unfold swOK at e
    exact c_X5_noSwitch hM ⟨hs, fun _ => q, fun h => ⟨by omega, fun h2 => by omega, fun _ => q⟩⟩
theorem mc_noMiddle {Z : ZT} {d : Nat} {G : GH} {Q : TR → GH → Prop} {m : Nat} {S X : St} {s : Int} (hM : MOK G m) (I : Rg S) (hs : inR s) (q : Q (.inl (some (tI (b2i (!decide (midOK S s)))))) (pM G m S X)) : TC Z (d + 1) mi_X5_noMiddle [tR (some m), tI s] (pM G m S X) Q := by
  obtain ⟨⟨i38, i39, i40, i41, i42, i43, i44, i45, i46, i47, i55, i60⟩, irow, iwait, igrp⟩ := id I
  by_cases e : midOK S s
  · rw [decide_eq_true e] at q
    unfold midOK at e
    exact c_X5_noMiddle hM ⟨hs, fun h => by omega, fun h => ⟨by omega, fun _ => q, fun h2 => by omega⟩⟩
  · rw [decide_eq_false e] at q
    unfold midOK at e
    exact c_X5_noMiddle hM ⟨hs, fun _ => q, fun h => ⟨by omega, fun h2 => by omega, fun _ => q⟩⟩
theorem mc_noGroup {Z : ZT} {d : Nat} {G : GH} {Q : TR → GH → Prop} {m : Nat} {S X : St} {s : Int} (hM : MOK G m) (I : Rg S) (hs : inR s) (q : Q (.inl (some (tI (b2i (!decide (grpOK S s)))))) (pM G m S X)) : TC Z (d + 1) mi_X5_noGroup [tR (some m), tI s] (pM G m S X) Q := by
  obtain ⟨⟨i38, i39, i40, i41, i42, i43, i44, i45, i46, i47, i55, i60⟩, irow, iwait, igrp⟩ := id I
  by_cases e : grpOK S s
  · rw [decide_eq_true e] at q
    unfold grpOK at e
    exact c_X5_noGroup hM ⟨hs, fun h => by omega, fun h => ⟨by omega, fun _ => q, fun h2 => by omega⟩⟩
  · rw [decide_eq_false e] at q
    unfold grpOK at e
    exact c_X5_noGroup hM ⟨hs, fun _ => q, fun h => ⟨by omega, fun h2 => by omega, fun _ => q⟩⟩
theorem idleAt_rng {S : St} {s : Int} : 0 ≤ idleAtS S s ∧ idleAtS S s ≤ (S 0 39).toNat := sumI_rng (p := fun k => idleB S (s * S 0 39 + (k : Int))) _ _
theorem mc_idleAt {Z : ZT} {d : Nat} {G : GH} {Q : TR → GH → Prop} {m : Nat} {S X : St} {s : Int} (hM : MOK G m) (I : Rg S) (hs : 0 ≤ s ∧ s < 100) (q : Q (.inl (some (tI (idleAtS S s)))) (pM G m S X)) : TC Z (d + 3) mi_X5_idleAt [tR (some m), tI s] (pM G m S X) Q := by
  obtain ⟨⟨i38, i39, i40, i41, i42, i43, i44, i45, i46, i47, i55, i60⟩, irow, iwait, igrp⟩ := id I
  have hp : 0 ≤ s * S 0 39 ∧ s * S 0 39 ≤ 600 := ⟨Int.mul_nonneg (by omega) (by omega), Int.le_trans (Int.mul_le_mul (show s ≤ 100 by omega) i39.2 (by omega) (by decide)) (by decide)⟩
  have loop : ∀ (k c : Nat) (e : Int), (S 0 39).toNat = c + k → Q (.inl (some (tI (e + sumI (fun k => b2i (idleB S (s * S 0 39 + (k : Int)))) k c)))) (pM G m S X) → TW Z mi_X5_idleAt (d + 3) 4 [some (tR (some m)), some (tI s), some (tI e), some (tI (c : Int))] [] (pM G m S X) Q := by
    intro k
    induction k with
    | zero =>
      intro c e hc q
      exact r_X5_idleAt_4 hM ⟨by omega, by omega, fun _ => by simpa [sumI] using q, fun h => by omega⟩
    | succ k ih =>
      intro c e hc q
      refine r_X5_idleAt_4 hM ⟨by omega, by omega, fun h => by omega, fun _ => mc_isIdle hM I (by omega) (r_X5_idleAt_25 hM ?_)⟩
      cases hb : idleB S (s * S 0 39 + (c : Int)) with
      | false => exact ⟨by decide, fun _ => ih (c + 1) _ (by omega) (by simpa [sumI, hb, b2i] using q), fun h => absurd rfl h⟩
      | true => exact ⟨by decide, fun h => absurd h (by decide), fun _ => ih (c + 1) _ (by omega) (by simpa [sumI, hb, b2i, Int.add_assoc] using q)⟩
  exact c_X5_idleAt hM (loop (S 0 39).toNat 0 0 (by omega) (by simpa [idleAtS] using q))
theorem mc_idleInAll {Z : ZT} {d : Nat} {G : GH} {Q : TR → GH → Prop} {m : Nat} {S X : St} (hM : MOK G m) (I : Rg S) (q : Q (.inl (some (tI (idleAll S)))) (pM G m S X)) : TC Z (d + 4) mi_X5_idleInAll [tR (some m)] (pM G m S X) Q := by
  obtain ⟨⟨i38, i39, i40, i41, i42, i43, i44, i45, i46, i47, i55, i60⟩, irow, iwait, igrp⟩ := id I
  have loop : ∀ (k c : Nat) (e : Int), (S 0 38).toNat = c + k → Q (.inl (some (tI (e + sumI (fun s => idleAtS S (s : Int)) k c)))) (pM G m S X) → TW Z mi_X5_idleInAll (d + 4) 4 [some (tR (some m)), some (tI e), some (tI (c : Int))] [] (pM G m S X) Q := by
    intro k
    induction k with
    | zero =>
      intro c e hc q
      exact r_X5_idleInAll_4 hM ⟨by omega, by omega, fun _ => by simpa [sumI] using q, fun h => by omega⟩
    | succ k ih =>
      intro c e hc q
      refine r_X5_idleInAll_4 hM ⟨by omega, by omega, fun h => by omega, fun _ => mc_idleAt hM I (by omega) (r_X5_idleInAll_18 hM (ih (c + 1) _ (by omega) ?_))⟩
      simpa [sumI, Int.add_assoc] using q
  exact c_X5_idleInAll hM (loop (S 0 38).toNat 0 0 (by omega) (by simpa [idleAll] using q))
theorem mc_belongs {Z : ZT} {d : Nat} {G : GH} {Q : TR → GH → Prop} {m : Nat} {S X : St} {s g : Int} (hM : MOK G m) (V : Inv S) (hs : inR s) (hg : 0 ≤ g ∧ g < S 0 60) (q : Q (.inl (some (tI (b2i (belongsB S s g))))) (pM G m S X)) : TC Z (d + 1) mi_X5_belongs [tR (some m), tI s, tI g] (pM G m S X) Q := by
  have I := V.1
  obtain ⟨⟨i38, i39, i40, i41, i42, i43, i44, i45, i46, i47, i55, i60⟩, irow, iwait, igrp⟩ := id I
  obtain ⟨g1, g2, g3, g4⟩ := igrp g.toNat (by omega)
  have loop : ∀ (r k : Nat), k + r = (S 63 g.toNat).toNat → belongsB S s g = decide (fnd (fun k => decide (S 64 (g * 8 + (k : Int)).toNat = s)) r k ≠ -1) → TW Z mi_X5_belongs (d + 1) 2 [some (tR (some m)), some (tI s), some (tI g), some (tI (k : Int))] [] (pM G m S X) Q := by
    intro r
    induction r with
    | zero =>
      intro k hk he
      rw [he] at q
      exact r_X5_belongs_2 hM ⟨by omega, by omega, by omega, fun _ => q, fun h => by omega⟩
    | succ r ih =>
      intro k hk he
      have ms := mem_rng V hg (k := k) (by omega)
      refine r_X5_belongs_2 hM ⟨by omega, by omega, by omega, fun h => by omega, fun _ => ⟨by omega, by omega, hs, fun e => ih (k + 1) (by omega) (by simpa [fnd, e] using he), fun e => ?_⟩⟩
      have : belongsB S s g = true := by
        rw [he]
        simp [fnd, e]
      rw [this] at q
      exact q
  exact c_X5_belongs hM (loop (S 63 g.toNat).toNat 0 (by omega) rfl)
theorem mc_freeAt {Z : ZT} {d : Nat} {G : GH} {Q : TR → GH → Prop} {m : Nat} {S X : St} {s : Int} {b : Bool} (hM : MOK G m) (I : Rg S) (hs : inR s) (q : Q (.inl (some (tI (freeAtS S s b)))) (pM G m S X)) : TC Z (d + 3) mi_X5_freeAt [tR (some m), tI s, tI (b2i b)] (pM G m S X) Q := by
  obtain ⟨⟨i38, i39, i40, i41, i42, i43, i44, i45, i46, i47, i55, i60⟩, irow, iwait, igrp⟩ := id I
  have loop : ∀ (k c : Nat) (e : Int), (S 0 40).toNat = c + k → Q (.inl (some (tI (e + sumI (fun k => b2i (!isCutB S (k : Int) && decide (carriedAt S (k : Int) s b = -1))) k c)))) (pM G m S X) → TW Z mi_X5_freeAt (d + 3) 5 [some (tR (some m)), some (tI s), some (tI (b2i b)), some (tI e), some (tI (c : Int))] [] (pM G m S X) Q := by
    intro k
    induction k with
    | zero =>
      intro c e hc q
      exact r_X5_freeAt_5 hM ⟨by omega, by omega, fun _ => by simpa [sumI] using q, fun h => by omega⟩
    | succ k ih =>
      intro c e hc q
      have cr := carriedAt_rng (S := S) (m := (c : Int)) (s := s) (b := b)
      refine r_X5_freeAt_5 hM ⟨by omega, by omega, fun h => by omega, fun _ => mc_isCut hM (r_X5_freeAt_21 hM ?_)⟩
      cases hb : isCutB S (c : Int) with
      | true => exact ⟨by decide, fun _ => ih (c + 1) _ (by omega) (by simpa [sumI, hb, b2i] using q), fun h => absurd h (by decide)⟩
      | false => exact ⟨by decide, fun h => absurd rfl h, fun _ => mc_carriedAt hM I (by omega) hs (r_X5_freeAt_32 hM ⟨by omega, fun h => ih (c + 1) _ (by omega) (by simpa [sumI, hb, h, b2i] using q), fun h => ih (c + 1) _ (by omega) (by simpa [sumI, hb, h, b2i, Int.add_assoc] using q)⟩)⟩
  exact c_X5_freeAt hM (loop (S 0 40).toNat 0 0 (by omega) (by simpa [freeAtS] using q))
theorem pairs_rng {S : St} (I : Rg S) {i j : Int} : -36 ≤ pairsS S i j ∧ pairsS S i j ≤ 36 := by
  obtain ⟨⟨i38, i39, i40, i41, i42, i43, i44, i45, i46, i47, i55, i60⟩, irow, iwait, igrp⟩ := id I
  have a := idleAt_rng (S := S) (s := i)
  have b := idleAt_rng (S := S) (s := j)
  unfold pairsS
  split
  · have h1 : idleAtS S i * (idleAtS S i - 1) ≤ 6 * 6 := by
      by_cases h : idleAtS S i = 0
      · rw [h]; decide
      · exact Int.mul_le_mul (by omega) (by omega) (by omega) (by decide)
    have h2 : 0 ≤ idleAtS S i * (idleAtS S i - 1) := by
      by_cases h : idleAtS S i = 0
      · rw [h]; decide
      · exact Int.mul_nonneg (by omega) (by omega)
    omega
  · have h1 : idleAtS S i * idleAtS S j ≤ 6 * 6 := Int.mul_le_mul (by omega) (by omega) (by omega) (by decide)
    have h2 : 0 ≤ idleAtS S i * idleAtS S j := Int.mul_nonneg (by omega) (by omega)
    omega
theorem mc_blockedPairs {Z : ZT} {d : Nat} {G : GH} {Q : TR → GH → Prop} {m : Nat} {S X : St} (hM : MOK G m) (V : Inv S) (q : ∀ X', Xs X X' → Q (.inl (some (tI (blockedPairs S)))) (pM G m S X')) : TC Z (d + 6) mi_X5_blockedPairs [tR (some m)] (pM G m S X) Q := by
  have I := V.1
  obtain ⟨⟨i38, i39, i40, i41, i42, i43, i44, i45, i46, i47, i55, i60⟩, irow, iwait, igrp⟩ := id I
  have inner : ∀ (r j i : Nat) (e : Int) (X1 : St) (o4 o5 : Option Value), (S 0 38).toNat = j + r → i < (S 0 38).toNat → Xs X X1 →
      (∀ X2, Xs X X2 → ∀ o3 o4 o5, TW Z mi_X5_blockedPairs (d + 6) 4 [some (tR (some m)), some (tI (e + sumI (fun j => if 0 < pairsS S (i : Int) (j : Int) ∧ blockedB S (i : Int) (j : Int) = true then pairsS S (i : Int) (j : Int) else 0) r j)), some (tI ((i : Int) + 1)), o3, o4, o5] [] (pM G m S X2) Q) →
      TW Z mi_X5_blockedPairs (d + 6) 14 [some (tR (some m)), some (tI e), some (tI (i : Int)), some (tI (j : Int)), o4, o5] [] (pM G m S X1) Q := by
    intro r
    induction r with
    | zero =>
      intro j i e X1 o4 o5 hj hi hX q
      refine r_X5_blockedPairs_14 hM ⟨by omega, by omega, fun _ => ?_, fun h => by omega⟩
      have := q X1 hX (some (tI (j : Int))) o4 o5
      simpa [sumI] using this
    | succ r ih =>
      intro j i e X1 o4 o5 hj hi hX q
      have pr := pairs_rng I (i := (i : Int)) (j := (j : Int))
      have a := idleAt_rng (S := S) (s := (i : Int))
      have b := idleAt_rng (S := S) (s := (j : Int))
      have skip : ∀ (v : Int) (X2 : St) (o4 o5 : Option Value), Xs X X2 → v = e + (if 0 < pairsS S (i : Int) (j : Int) ∧ blockedB S (i : Int) (j : Int) = true then pairsS S (i : Int) (j : Int) else 0) → TW Z mi_X5_blockedPairs (d + 6) 14 [some (tR (some m)), some (tI v), some (tI (i : Int)), some (tI ((j : Int) + 1)), o4, o5] [] (pM G m S X2) Q := by
        intro v X2 o4 o5 hX2 hv
        subst hv
        refine ih (j + 1) i _ X2 o4 o5 (by omega) hi hX2 (fun X3 hX3 o3 o4 o5 => ?_)
        have := q X3 hX3 o3 o4 o5
        simpa [sumI, Int.add_assoc] using this
      have bl : ∀ (v : Int) (o4 : Option Value), v = pairsS S (i : Int) (j : Int) → 0 < v → TC Z (d + 5) mi_X5_isBlocked [tR (some m), tI (i : Int), tI (j : Int)] (pM G m S X1) (KQ Z mi_X5_blockedPairs (d + 6) 62 65 [some (tR (some m)), some (tI e), some (tI (i : Int)), some (tI (j : Int)), some (tI (idleAtS S (i : Int))), some (tI v)] [] Q) := by
        intro v o4 hv h0
        subst hv
        refine mc_isBlocked hM I V.walk (by omega) (by omega) (fun X2 hX2 => r_X5_blockedPairs_65 hM ?_)
        cases hb : blockedB S (i : Int) (j : Int) with
        | false => exact ⟨by decide, fun _ => skip _ X2 _ _ (hX.trans hX2) (by rw [hb, if_neg (by simp)]; omega), fun h => absurd rfl h⟩
        | true => exact ⟨by decide, fun h => absurd h (by decide), fun _ => skip _ X2 _ _ (hX.trans hX2) (by rw [hb, if_pos ⟨h0, rfl⟩])⟩
      refine r_X5_blockedPairs_14 hM ⟨by omega, by omega, fun h => by omega, fun _ => mc_idleAt hM I (by omega) (r_X5_blockedPairs_27 hM ⟨by omega, by omega, fun hij => mc_idleAt hM I (by omega) (r_X5_blockedPairs_51 hM ?_), fun hij => ?_⟩)⟩
      · have ep : pairsS S (i : Int) (j : Int) = idleAtS S (i : Int) * idleAtS S (j : Int) := if_neg hij
        rw [ep] at pr
        exact ⟨by omega, fun h => skip _ X1 _ _ hX (by rw [if_neg (fun z => by have := z.1; omega)]; omega), fun h => bl _ (some (tI 0)) ep.symm (by omega)⟩
      · have ep : pairsS S (i : Int) (j : Int) = idleAtS S (i : Int) * (idleAtS S (i : Int) - 1) := if_pos hij
        rw [ep] at pr
        exact ⟨by omega, fun h => skip _ X1 _ _ hX (by rw [if_neg (fun z => by have := z.1; omega)]; omega), fun h => bl _ (some (tI 0)) ep.symm (by omega)⟩
  have outer : ∀ (r i : Nat) (e : Int) (X1 : St) (o3 o4 o5 : Option Value), (S 0 38).toNat = i + r → Xs X X1 → e + sumI (fun i => sumI (fun j => if 0 < pairsS S (i : Int) (j : Int) ∧ blockedB S (i : Int) (j : Int) = true then pairsS S (i : Int) (j : Int) else 0) (S 0 38).toNat 0) r i = blockedPairs S →
      TW Z mi_X5_blockedPairs (d + 6) 4 [some (tR (some m)), some (tI e), some (tI (i : Int)), o3, o4, o5] [] (pM G m S X1) Q := by
    intro r
    induction r with
    | zero =>
      intro i e X1 o3 o4 o5 hi hX he
      have := q X1 hX
      rw [← he] at this
      exact r_X5_blockedPairs_4 hM ⟨by omega, by omega, fun _ => by simpa [sumI] using this, fun h => by omega⟩
    | succ r ih =>
      intro i e X1 o3 o4 o5 hi hX he
      refine r_X5_blockedPairs_4 hM ⟨by omega, by omega, fun h => by omega, fun _ => inner (S 0 38).toNat 0 i e X1 _ _ (by omega) (by omega) hX (fun X2 hX2 o3 o4 o5 => ih (i + 1) _ X2 _ _ _ (by omega) hX2 ?_)⟩
      rw [← he]
      simp only [sumI]
      omega
  exact c_X5_blockedPairs hM (outer (S 0 38).toNat 0 0 X none none none (by omega) Xs.rfl' (by simp [blockedPairs]))
theorem mc_callNumberOf {Z : ZT} {d : Nat} {G : GH} {Q : TR → GH → Prop} {m : Nat} {S X : St} {s : Int} (hM : MOK G m) (I : Rg S) (hs : inR s) (q : Q (.inl (some (tI (callNum S s)))) (pM G m S X)) : TC Z (d + 2) mi_X5_callNumberOf [tR (some m), tI s] (pM G m S X) Q := by
  obtain ⟨⟨i38, i39, i40, i41, i42, i43, i44, i45, i46, i47, i55, i60⟩, irow, iwait, igrp⟩ := id I
  have r1 := callWith_rng (S := S) (s := s)
  refine c_X5_callNumberOf hM (mc_callWith hM I hs (r_X5_callNumberOf_5 hM ⟨by omega, fun h => ⟨by omega, ?_⟩, fun h => ?_⟩))
  · simpa [callNum, numAt, h] using q
  · simpa [callNum, numAt, h] using q
theorem mp_count {Z : ZT} {d : Nat} {G : GH} {Q : TR → GH → Prop} {m : Nat} {S X : St} {w : Int} (hM : MOK G m) (I : Rg S) (hw : inR w) (q : QC G m S X (countA S (X 0 68) (X 0 33) w) Q) : TC Z (d + 5) mi_X5_count [tR (some m), tI w] (pM G m S X) Q := by
  refine c_X5_count hM ⟨hw, fun h => ?_, fun h => ?_, fun h => ?_, fun h => ?_, fun h => ?_, fun h => ?_, fun h => ?_, fun h => ?_, fun h => ?_, fun h => ?_, fun h => ?_, fun h => ?_, fun h => ?_, fun h => ?_, fun h => ?_, fun h => ?_⟩
  · have e : countA S (X 0 68) (X 0 33) w = (1, 0) := by unfold countA; rw [if_neg (by omega), if_neg (by omega), if_neg (by omega), if_neg (by omega), if_neg (by omega), if_neg (by omega), if_neg (by omega), if_neg (by omega), if_neg (by omega), if_neg (by omega), if_neg (by omega), if_neg (by omega), if_neg (by omega), if_neg (by omega), if_neg (by omega)]
    rw [e] at q
    exact mc_refuse hM (r_X5_count_160 hM (q S _ Sg.rfl' Xp.b))
  all_goals subst h
  · exact q S _ Sg.rfl' Xp.a
  · exact q S _ Sg.rfl' Xp.a
  · exact q S _ Sg.rfl' Xp.a
  · exact mc_inOrder hM I (r_X5_count_99 hM (q S _ Sg.rfl' Xp.a))
  · exact q S _ Sg.rfl' Xp.a
  · exact q S _ Sg.rfl' Xp.a
  · exact mc_idleInAll hM I (r_X5_count_114 hM (q S _ Sg.rfl' Xp.a))
  · exact q S _ Sg.rfl' Xp.a
  · exact q S _ Sg.rfl' Xp.a
  · exact q S _ Sg.rfl' Xp.a
  · exact q S _ Sg.rfl' Xp.a
  · exact q S _ Sg.rfl' Xp.a
  · exact q S _ Sg.rfl' Xp.a
  · exact q S _ Sg.rfl' Xp.a
  · exact q S _ Sg.rfl' Xp.a
