/-! THE MODEL'S METHODS, 3: what changes -/
def shiftT (lo hi p c : Nat) (S : St) : St := fun f x => if lo ≤ f ∧ f ≤ hi ∧ p ≤ x ∧ x < c then S f (x + 1) else S f x
theorem shiftT_0 {lo hi p c : Nat} {S : St} {x : Nat} (h : 0 < lo) : shiftT lo hi p c S 0 x = S 0 x := if_neg (fun q => by omega)
theorem shiftT_p {lo hi p : Nat} {S : St} : shiftT lo hi p p S = S := by
  funext f x
  exact if_neg (fun q => by omega)
theorem shift7 {p c : Nat} {T : St} (hp : p ≤ c) : up2 (up2 (up2 (up2 (up2 (up2 (up2 (shiftT 48 54 p c T) 48 c (shiftT 48 54 p c T 48 (c + 1))) 49 c (shiftT 48 54 p c T 49 (c + 1))) 50 c (shiftT 48 54 p c T 50 (c + 1))) 51 c (shiftT 48 54 p c T 51 (c + 1))) 52 c (shiftT 48 54 p c T 52 (c + 1))) 53 c (shiftT 48 54 p c T 53 (c + 1))) 54 c (shiftT 48 54 p c T 54 (c + 1)) = shiftT 48 54 p (c + 1) T := by
  have hc : ∀ f, shiftT 48 54 p c T f (c + 1) = T f (c + 1) := fun f => if_neg (fun q => by omega)
  simp only [hc]
  funext f x
  by_cases hx : x = c
  · subst hx
    by_cases hf : 48 ≤ f ∧ f ≤ 54
    · have hr : shiftT 48 54 p (x + 1) T f x = T f (x + 1) := if_pos ⟨hf.1, hf.2, hp, by omega⟩
      rw [hr]
      have : f = 48 ∨ f = 49 ∨ f = 50 ∨ f = 51 ∨ f = 52 ∨ f = 53 ∨ f = 54 := by omega
      rcases this with rfl | rfl | rfl | rfl | rfl | rfl | rfl <;> simp [up2]
    · rw [up2_ne (by omega), up2_ne (by omega), up2_ne (by omega), up2_ne (by omega), up2_ne (by omega), up2_ne (by omega), up2_ne (by omega)]
      unfold shiftT
      rw [if_neg (by omega), if_neg (by omega)]
  · rw [up2_ne (Or.inr hx), up2_ne (Or.inr hx), up2_ne (Or.inr hx), up2_ne (Or.inr hx), up2_ne (Or.inr hx), up2_ne (Or.inr hx), up2_ne (Or.inr hx)]
    unfold shiftT
    by_cases q : 48 ≤ f ∧ f ≤ 54 ∧ p ≤ x ∧ x < c
    · rw [if_pos q, if_pos (by omega)]
    · rw [if_neg q, if_neg (by omega)]
theorem shift4 {p c : Nat} {T : St} (hp : p ≤ c) : up2 (up2 (up2 (up2 (shiftT 56 59 p c T) 56 c (shiftT 56 59 p c T 56 (c + 1))) 57 c (shiftT 56 59 p c T 57 (c + 1))) 58 c (shiftT 56 59 p c T 58 (c + 1))) 59 c (shiftT 56 59 p c T 59 (c + 1)) = shiftT 56 59 p (c + 1) T := by
  have hc : ∀ f, shiftT 56 59 p c T f (c + 1) = T f (c + 1) := fun f => if_neg (fun q => by omega)
  simp only [hc]
  funext f x
  by_cases hx : x = c
  · subst hx
    by_cases hf : 56 ≤ f ∧ f ≤ 59
    · have hr : shiftT 56 59 p (x + 1) T f x = T f (x + 1) := if_pos ⟨hf.1, hf.2, hp, by omega⟩
      rw [hr]
      have : f = 56 ∨ f = 57 ∨ f = 58 ∨ f = 59 := by omega
      rcases this with rfl | rfl | rfl | rfl <;> simp [up2]
    · rw [up2_ne (by omega), up2_ne (by omega), up2_ne (by omega), up2_ne (by omega)]
      unfold shiftT
      rw [if_neg (by omega), if_neg (by omega)]
  · rw [up2_ne (Or.inr hx), up2_ne (Or.inr hx), up2_ne (Or.inr hx), up2_ne (Or.inr hx)]
    unfold shiftT
    by_cases q : 56 ≤ f ∧ f ≤ 59 ∧ p ≤ x ∧ x < c
    · rw [if_pos q, if_pos (by omega)]
    · rw [if_neg q, if_neg (by omega)]
theorem shift_row {S : St} {p n : Nat} (hn : (S 0 47).toNat = n + 1) : shiftT 48 54 p n (up2 S 0 47 (S 0 47 - 1)) = delRow S p := by
  funext f x
  by_cases h : f = 0
  · subst h
    rw [shiftT_0 (by decide)]
    by_cases h2 : x = 47
    · subst h2; rw [up2_at, delRow_47]
    · rw [up2_ne (Or.inr h2), delRow_0 h2]
  · unfold delRow shiftT
    rw [up2_ne (Or.inl h), up2_ne (Or.inl h), up2_ne (Or.inl h)]
    by_cases q : 48 ≤ f ∧ f ≤ 54 ∧ p ≤ x ∧ x < n
    · rw [if_pos q, if_pos (by omega)]
    · rw [if_neg q, if_neg (by omega)]
theorem shift_wait {S : St} {p n : Nat} (hn : (S 0 55).toNat = n + 1) : shiftT 56 59 p n (up2 S 0 55 (S 0 55 - 1)) = delWait S p := by
  funext f x
  by_cases h : f = 0
  · subst h
    rw [shiftT_0 (by decide)]
    by_cases h2 : x = 55
    · subst h2; rw [up2_at, delWait_55]
    · rw [up2_ne (Or.inr h2), delWait_0 h2]
  · unfold delWait shiftT
    rw [up2_ne (Or.inl h), up2_ne (Or.inl h), up2_ne (Or.inl h)]
    by_cases q : 56 ≤ f ∧ f ≤ 59 ∧ p ≤ x ∧ x < n
    · rw [if_pos q, if_pos (by omega)]
    · rw [if_neg q, if_neg (by omega)]
theorem mc_ends {Z : ZT} {d : Nat} {G : GH} {Q : TR → GH → Prop} {m : Nat} {S X : St} {p : Nat} (hM : MOK G m) (I : Rg S) (hp : p < (S 0 47).toNat) (q : Q (.inl none) (pM G m (delRow S p) X)) : TC Z (d + 1) mi_X5_ends [tR (some m), tI (p : Int)] (pM G m S X) Q := by
  obtain ⟨⟨i38, i39, i40, i41, i42, i43, i44, i45, i46, i47, i55, i60⟩, irow, iwait, igrp⟩ := id I
  have loop : ∀ k c : Nat, c + k + 1 = (S 0 47).toNat → p ≤ c → TW Z mi_X5_ends (d + 1) 12 [some (tR (some m)), some (tI (p : Int)), some (tI (c : Int))] [] (pM G m (shiftT 48 54 p c (up2 S 0 47 (S 0 47 - 1))) X) Q := by
    intro k
    induction k with
    | zero =>
      intro c hc hpc
      have e47 : shiftT 48 54 p c (up2 S 0 47 (S 0 47 - 1)) 0 47 = S 0 47 - 1 := (shiftT_0 (by decide)).trans up2_at
      rw [← shift_row (n := c) (by omega)] at q
      exact r_X5_ends_12 hM ⟨by omega, by omega, fun _ => q, fun h => by omega⟩
    | succ k ih =>
      intro c hc hpc
      have e47 : shiftT 48 54 p c (up2 S 0 47 (S 0 47 - 1)) 0 47 = S 0 47 - 1 := (shiftT_0 (by decide)).trans up2_at
      have e1 : ((c : Int) + 1).toNat = c + 1 := by omega
      refine r_X5_ends_12 hM ⟨by omega, by omega, fun h => by omega, fun _ => ⟨by omega, by omega, ?_⟩⟩
      simp only [Int.toNat_natCast, e1]
      rw [shift7 hpc]
      exact r_X5_ends_118 hM (ih (c + 1) (by omega) (by omega))
  refine c_X5_ends hM ?_
  have := loop ((S 0 47).toNat - 1 - p) p (by omega) (Nat.le_refl _)
  rwa [shiftT_p] at this
theorem mc_stopsWaiting {Z : ZT} {d : Nat} {G : GH} {Q : TR → GH → Prop} {m : Nat} {S X : St} {p : Nat} (hM : MOK G m) (I : Rg S) (hp : p < (S 0 55).toNat) (q : Q (.inl none) (pM G m (delWait S p) X)) : TC Z (d + 1) mi_X5_stopsWaiting [tR (some m), tI (p : Int)] (pM G m S X) Q := by
  obtain ⟨⟨i38, i39, i40, i41, i42, i43, i44, i45, i46, i47, i55, i60⟩, irow, iwait, igrp⟩ := id I
  have loop : ∀ k c : Nat, c + k + 1 = (S 0 55).toNat → p ≤ c → TW Z mi_X5_stopsWaiting (d + 1) 12 [some (tR (some m)), some (tI (p : Int)), some (tI (c : Int))] [] (pM G m (shiftT 56 59 p c (up2 S 0 55 (S 0 55 - 1))) X) Q := by
    intro k
    induction k with
    | zero =>
      intro c hc hpc
      have e47 : shiftT 56 59 p c (up2 S 0 55 (S 0 55 - 1)) 0 55 = S 0 55 - 1 := (shiftT_0 (by decide)).trans up2_at
      rw [← shift_wait (n := c) (by omega)] at q
      exact r_X5_stopsWaiting_12 hM ⟨by omega, by omega, fun _ => q, fun h => by omega⟩
    | succ k ih =>
      intro c hc hpc
      have e47 : shiftT 56 59 p c (up2 S 0 55 (S 0 55 - 1)) 0 55 = S 0 55 - 1 := (shiftT_0 (by decide)).trans up2_at
      have e1 : ((c : Int) + 1).toNat = c + 1 := by omega
      refine r_X5_stopsWaiting_12 hM ⟨by omega, by omega, fun h => by omega, fun _ => ⟨by omega, by omega, ?_⟩⟩
      simp only [Int.toNat_natCast, e1]
      rw [shift4 hpc]
      exact ih (c + 1) (by omega) (by omega)
  refine c_X5_stopsWaiting hM ?_
  have := loop ((S 0 55).toNat - 1 - p) p (by omega) (Nat.le_refl _)
  rwa [shiftT_p] at this
theorem mc_refused {Z : ZT} {d : Nat} {G : GH} {Q : TR → GH → Prop} {m : Nat} {S X : St} {k : Nat} (hM : MOK G m) (hk : k < 13) (q : Q (.inl (some (tI (-10 - (k : Int))))) (pM G m (addAcc S k 1) X)) : TC Z (d + 1) mi_X5_refused [tR (some m), tI (k : Int)] (pM G m S X) Q := by
  refine c_X5_refused hM ⟨by omega, ?_⟩
  simp only [Int.toNat_natCast]
  exact q
theorem mc_reasonNot {Z : ZT} {d : Nat} {G : GH} {Q : TR → GH → Prop} {m : Nat} {S X : St} {fr to : Int} (hM : MOK G m) (V : Inv S) (hfr : 0 ≤ fr ∧ fr < 36) (hto : 0 ≤ to ∧ to < 36) (q : ∀ X', Xs X X' → Q (.inl (some (tI (reasonNot S fr to)))) (pM G m S X')) : TC Z (d + 6) mi_X5_reasonNot [tR (some m), tI fr, tI to] (pM G m S X) Q := by
  have I := V.1
  obtain ⟨⟨i38, i39, i40, i41, i42, i43, i44, i45, i46, i47, i55, i60⟩, irow, iwait, igrp⟩ := id I
  have t1 := tdiv_rng hfr.1 i39.1
  have t2 := tdiv_rng hto.1 i39.1
  have q0 := q X Xs.rfl'
  refine c_X5_reasonNot hM (mc_isIdle hM I (by omega) (r_X5_reasonNot_5 hM ?_))
  cases h1 : idleB S fr with
  | false => exact ⟨by decide, fun h => absurd rfl h, fun _ => by simpa [reasonNot, h1] using q0⟩
  | true =>
    refine ⟨by decide, fun _ => mc_isIdle hM I (by omega) (r_X5_reasonNot_15 hM ?_), fun h => absurd h (by decide)⟩
    cases h2 : idleB S to with
    | false => exact ⟨by decide, fun h => absurd rfl h, fun _ => by simpa [reasonNot, h1, h2] using q0⟩
    | true =>
      refine ⟨by decide, fun _ => ⟨by omega, fun h3 => ⟨by omega, by omega, by omega, by omega, mc_isBlocked hM I V.walk (by omega) (by omega) (fun X1 hX1 => r_X5_reasonNot_48 hM ?_)⟩, fun h3 => by simpa [reasonNot, h1, h2, h3] using q0⟩, fun h => absurd h (by decide)⟩
      have q1 := q X1 hX1
      cases h4 : blockedB S (fr.tdiv (S 0 39)) (to.tdiv (S 0 39)) with
      | false => exact ⟨by decide, fun _ => by simpa [reasonNot, h1, h2, h3, h4] using q1, fun h => absurd rfl h⟩
      | true => exact ⟨by decide, fun h => absurd h (by decide), fun _ => by simpa [reasonNot, h1, h2, h3, h4] using q1⟩
theorem mem_rng {S : St} (V : Inv S) {g : Int} (hg : 0 ≤ g ∧ g < S 0 60) {k : Nat} (hk : k < (S 63 g.toNat).toNat) : (0 ≤ S 64 (g * 8 + (k : Int)).toNat ∧ S 64 (g * 8 + (k : Int)).toNat < S 0 38 * S 0 39) ∧ S 64 (g * 8 + (k : Int)).toNat < 36 := by
  have I := V.1
  obtain ⟨⟨i38, i39, i40, i41, i42, i43, i44, i45, i46, i47, i55, i60⟩, irow, iwait, igrp⟩ := id I
  obtain ⟨C, r1, r2, r3, r4, r5, r6, r7, r8, r9, r10, r11⟩ := id V.2
  obtain ⟨g1, g2, g3, g4⟩ := igrp g.toNat (by omega)
  have e : (g * 8 + (k : Int)).toNat = 8 * g.toNat + k := by omega
  have := g4 k hk
  have := r10 g.toNat k (by omega) hk
  rw [e]
  omega
theorem mc_memberFor {Z : ZT} {d : Nat} {G : GH} {Q : TR → GH → Prop} {m : Nat} {S X : St} {fr g : Int} (hM : MOK G m) (V : Inv S) (hfr : 0 ≤ fr ∧ fr < 36) (hg : 0 ≤ g ∧ g < S 0 60) (q : ∀ X', Xs X X' → Q (.inl (some (tI (memberFor S fr g)))) (pM G m S X')) : TC Z (d + 6) mi_X5_memberFor [tR (some m), tI fr, tI g] (pM G m S X) Q := by
  have I := V.1
  obtain ⟨⟨i38, i39, i40, i41, i42, i43, i44, i45, i46, i47, i55, i60⟩, irow, iwait, igrp⟩ := id I
  have t1 := tdiv_rng hfr.1 i39.1
  obtain ⟨g1, g2, g3, g4⟩ := igrp g.toNat (by omega)
  have loop : ∀ (r k : Nat) (X1 : St) (o : Option Value), Xs X X1 → k + r = (S 63 g.toNat).toNat → memberFor S fr g = memL S fr g true r k → TW Z mi_X5_memberFor (d + 6) 2 [some (tR (some m)), some (tI fr), some (tI g), some (tI (k : Int)), o] [] (pM G m S X1) Q := by
    intro r
    induction r with
    | zero =>
      intro k X1 o hX hk he
      have := q X1 hX
      rw [he] at this
      exact r_X5_memberFor_2 hM ⟨by omega, by omega, by omega, fun _ => this, fun h => by omega⟩
    | succ r ih =>
      intro k X1 o hX hk he
      have ms := mem_rng V hg (k := k) (by omega)
      simp only [memL] at he
      refine r_X5_memberFor_2 hM ⟨by omega, by omega, by omega, fun h => by omega, fun _ => ⟨by omega, ?_⟩⟩
      generalize S 64 (g * 8 + (k : Int)).toNat = s at he ms ⊢
      have t2 := tdiv_rng ms.1.1 i39.1
      refine ⟨by omega, by omega, fun e => ih (k + 1) X1 _ hX (by omega) (by simpa [memOK, e] using he), fun e => mc_isIdle hM I (by omega) (r_X5_memberFor_37 hM ?_)⟩
      cases h1 : idleB S s with
      | false => exact ⟨by decide, fun _ => ih (k + 1) X1 _ hX (by omega) (by simpa [memOK, e, h1] using he), fun h => absurd rfl h⟩
      | true =>
        refine ⟨by decide, fun h => absurd h (by decide), fun _ => ⟨by omega, by omega, by omega, by omega, mc_isBlocked hM I V.walk (by omega) (by omega) (fun X2 hX2 => r_X5_memberFor_57 hM ?_)⟩⟩
        cases h2 : blockedB S (fr.tdiv (S 0 39)) (s.tdiv (S 0 39)) with
        | false =>
          have := q X2 (hX.trans hX2)
          exact ⟨by decide, fun h => absurd rfl h, fun _ => by simpa [he, memOK, e, h1, h2] using this⟩
        | true => exact ⟨by decide, fun _ => ih (k + 1) X2 _ (hX.trans hX2) (by omega) (by simpa [memOK, e, h1, h2] using he), fun h => absurd h (by decide)⟩
  exact c_X5_memberFor hM (loop (S 63 g.toNat).toNat 0 X none Xs.rfl' (by omega) rfl)
theorem mc_hasIdleMember {Z : ZT} {d : Nat} {G : GH} {Q : TR → GH → Prop} {m : Nat} {S X : St} {fr g : Int} (hM : MOK G m) (V : Inv S) (hfr : 0 ≤ fr ∧ fr < 36) (hg : 0 ≤ g ∧ g < S 0 60) (q : Q (.inl (some (tI (b2i (hasIdle S fr g))))) (pM G m S X)) : TC Z (d + 3) mi_X5_hasIdleMember [tR (some m), tI fr, tI g] (pM G m S X) Q := by
  have I := V.1
  obtain ⟨⟨i38, i39, i40, i41, i42, i43, i44, i45, i46, i47, i55, i60⟩, irow, iwait, igrp⟩ := id I
  obtain ⟨g1, g2, g3, g4⟩ := igrp g.toNat (by omega)
  have loop : ∀ (r k : Nat) (o : Option Value), k + r = (S 63 g.toNat).toNat → memL S fr g false (S 63 g.toNat).toNat 0 = memL S fr g false r k → TW Z mi_X5_hasIdleMember (d + 3) 2 [some (tR (some m)), some (tI fr), some (tI g), some (tI (k : Int)), o] [] (pM G m S X) Q := by
    intro r
    induction r with
    | zero =>
      intro k o hk he
      have hf : hasIdle S fr g = false := by unfold hasIdle; rw [he]; rfl
      rw [hf] at q
      exact r_X5_hasIdleMember_2 hM ⟨by omega, by omega, by omega, fun _ => q, fun h => by omega⟩
    | succ r ih =>
      intro k o hk he
      have ms := mem_rng V hg (k := k) (by omega)
      simp only [memL] at he
      refine r_X5_hasIdleMember_2 hM ⟨by omega, by omega, by omega, fun h => by omega, fun _ => ⟨by omega, ?_⟩⟩
      generalize S 64 (g * 8 + (k : Int)).toNat = s at he ms ⊢
      refine ⟨by omega, by omega, fun e => ih (k + 1) _ (by omega) (by simpa [memOK, e] using he), fun e => mc_isIdle hM I (by omega) (r_X5_hasIdleMember_37 hM ?_)⟩
      cases h1 : idleB S s with
      | false => exact ⟨by decide, fun _ => ih (k + 1) _ (by omega) (by simpa [memOK, e, h1] using he), fun h => absurd rfl h⟩
      | true =>
        refine ⟨by decide, fun h => absurd h (by decide), fun _ => ?_⟩
        have : hasIdle S fr g = true := by
          have he' : memL S fr g false (S 63 g.toNat).toNat 0 = s := by simpa [memOK, e, h1] using he
          unfold hasIdle
          rw [he']
          exact decide_eq_true (by omega)
        rw [this] at q
        exact q
  exact c_X5_hasIdleMember hM (loop (S 63 g.toNat).toNat 0 none (by omega) rfl)
theorem mc_begins {Z : ZT} {d : Nat} {G : GH} {Q : TR → GH → Prop} {m : Nat} {S X : St} {fr to last : Int} (hM : MOK G m) (V : Inv S) (hfr : 0 ≤ fr ∧ fr < 36) (hto : 0 ≤ to ∧ to < 36) (q : ∀ X', Xs X X' → Q (.inl (some (tI (S 0 46)))) (pM G m (begins S fr to last) X')) : TC Z (d + 6) mi_X5_begins [tR (some m), tI fr, tI to, tI last] (pM G m S X) Q := by
  have I := V.1
  obtain ⟨⟨i38, i39, i40, i41, i42, i43, i44, i45, i46, i47, i55, i60⟩, irow, iwait, igrp⟩ := id I
  have t1 := tdiv_rng hfr.1 i39.1
  have t2 := tdiv_rng hto.1 i39.1
  obtain ⟨a1, a2, a3, a4⟩ := route_ok V (i := fr.tdiv (S 0 39)) (j := to.tdiv (S 0 39)) (rule := S 0 43) (chains := decide (S 0 42 = 1)) (low := S 0 40) (counts := true)
  have tail : ∀ X', Xs X X' → TW Z mi_X5_begins (d + 6) 38 [some (tR (some m)), some (tI fr), some (tI to), some (tI last), none, none] [tI (route S (fr.tdiv (S 0 39)) (to.tdiv (S 0 39)) (S 0 43) (decide (S 0 42 = 1)) (S 0 40) true).1] (pM G m (route S (fr.tdiv (S 0 39)) (to.tdiv (S 0 39)) (S 0 43) (decide (S 0 42 = 1)) (S 0 40) true).2 X') Q := by
    intro X' hX'
    have q1 := q X' hX'
    unfold begins at q1
    have e47 := a2 0 47 (by decide) (by decide) (by decide)
    have e46 := a2 0 46 (by decide) (by decide) (by decide)
    generalize route S (fr.tdiv (S 0 39)) (to.tdiv (S 0 39)) (S 0 43) (decide (S 0 42 = 1)) (S 0 40) true = R at *
    obtain ⟨mm, S1⟩ := R
    simp only at q1 e47 e46 ⊢
    refine r_X5_begins_38 hM ⟨by omega, r_X5_begins_107 hM ⟨by omega, ?_⟩⟩
    rw [← e46] at q1
    have e : S1 0 46 = S1 0 46 + 1 - 1 := by omega
    rw [e] at q1
    exact q1
  refine c_X5_begins hM ⟨by omega, by omega, by omega, by omega, by omega, fun h => ?_, fun h => ?_⟩
  · have hd : decide (S 0 42 = 1) = false := decide_eq_false h
    rw [hd] at tail
    exact mc_route (chains := false) (counts := true) hM I V.walk (by omega) (by omega) (by omega) (by omega) tail
  · have hd : decide (S 0 42 = 1) = true := decide_eq_true h
    rw [hd] at tail
    exact mc_route (chains := true) (counts := true) hM I V.walk (by omega) (by omega) (by omega) (by omega) tail
theorem mc_callsUp {Z : ZT} {d : Nat} {G : GH} {Q : TR → GH → Prop} {m : Nat} {S X : St} {fr to last : Int} (hM : MOK G m) (V : Inv S) (hfr : 0 ≤ fr ∧ fr < 36) (hto : 0 ≤ to ∧ to < 36) (q : ∀ X', Xs X X' → Q (.inl (some (tI (callsUp S fr to last).1))) (pM G m (callsUp S fr to last).2 X')) : TC Z (d + 7) mi_X5_callsUp [tR (some m), tI fr, tI to, tI last] (pM G m S X) Q := by
  refine c_X5_callsUp hM (mc_reasonNot hM V hfr hto (fun X1 hX1 => r_X5_callsUp_6 hM ?_))
  have hr : 0 ≤ reasonNot S fr to ∧ reasonNot S fr to ≤ 4 := by unfold reasonNot; split <;> (try split) <;> (try split) <;> (try split) <;> omega
  refine ⟨by omega, fun h => ?_, fun h => mc_begins hM V hfr hto (fun X2 hX2 => r_X5_callsUp_20 hM ?_)⟩
  · have hq := q X1 hX1
    have e : callsUp S fr to last = (-10 - reasonNot S fr to, addAcc S (reasonNot S fr to).toNat 1) := if_neg h
    rw [e] at hq
    generalize reasonNot S fr to = k at hq hr ⊢
    obtain ⟨k, rfl⟩ : ∃ n : Nat, k = (n : Int) := ⟨k.toNat, by omega⟩
    simp only [Int.toNat_natCast] at hq
    exact mc_refused hM (by omega) (r_X5_callsUp_29 hM hq)
  · have hq := q X2 (hX1.trans hX2)
    have e : callsUp S fr to last = (S 0 46, begins S fr to last) := if_pos h
    rw [e] at hq
    exact hq
theorem mc_dials {Z : ZT} {d : Nat} {G : GH} {Q : TR → GH → Prop} {m : Nat} {S X : St} {fr g last : Int} (hM : MOK G m) (V : Inv S) (hfr : 0 ≤ fr ∧ fr < 36) (hg : 0 ≤ g ∧ g < S 0 60) (q : ∀ X', Xs X X' → Q (.inl (some (tI (dials S fr g last).1))) (pM G m (dials S fr g last).2 X')) : TC Z (d + 7) mi_X5_dials [tR (some m), tI fr, tI g, tI last] (pM G m S X) Q := by
  have I := V.1
  obtain ⟨⟨i38, i39, i40, i41, i42, i43, i44, i45, i46, i47, i55, i60⟩, irow, iwait, igrp⟩ := id I
  refine c_X5_dials hM (mc_isIdle hM I (by omega) (r_X5_dials_5 hM ?_))
  cases h1 : idleB S fr with
  | false =>
    have q0 := q X Xs.rfl'
    exact ⟨by decide, fun h => absurd rfl h, fun _ => mc_refused (k := 1) hM (by decide) (r_X5_dials_13 hM (by simpa [dials, h1] using q0))⟩
  | true =>
    refine ⟨by decide, fun _ => ⟨by omega, fun h2 => mc_memberFor hM V hfr hg (fun X1 hX1 => r_X5_dials_36 hM ?_), fun h2 => ?_⟩, fun h => absurd h (by decide)⟩
    · by_cases h3 : memberFor S fr g = -1
      · rw [h3]
        refine ⟨by decide, fun _ => mc_hasIdleMember hM V hfr hg (r_X5_dials_59 hM ?_), fun h => absurd rfl h⟩
        have q1 := q X1 hX1
        cases h4 : hasIdle S fr g with
        | true => exact ⟨by decide, fun h => absurd h (by decide), fun _ => mc_refused (k := 4) hM (by decide) (r_X5_dials_67 hM (by simpa [dials, h1, h2, h3, h4] using q1))⟩
        | false => exact ⟨by decide, fun _ => ⟨by omega, fun h5 => ⟨by omega, by simpa [dials, h1, h2, h3, h4, h5, addWait] using q1⟩, fun h5 => mc_refused (k := 5) hM (by decide) (r_X5_dials_82 hM (by simpa [dials, h1, h2, h3, h4, h5] using q1))⟩, fun h => absurd rfl h⟩
      · obtain ⟨s0, s1⟩ := member_ok V hg h3
        have s36 := sub36 I
        have s0 : 0 ≤ memberFor S fr g ∧ memberFor S fr g < S 0 38 * S 0 39 := s0
        refine ⟨by omega, fun h => absurd h h3, fun _ => mc_begins hM V hfr (by omega) (fun X2 hX2 => r_X5_dials_52 hM ?_)⟩
        have q2 := q X2 (hX1.trans hX2)
        simpa [dials, h1, h2, h3] using q2
    · have q0 := q X Xs.rfl'
      exact mc_refused (k := 3) hM (by decide) (r_X5_dials_29 hM (by simpa [dials, h1, h2] using q0))
theorem mc_serves {Z : ZT} {d : Nat} {G : GH} {Q : TR → GH → Prop} {m : Nat} {S X : St} (hM : MOK G m) (V : Inv S) (q : ∀ X', Xs X X' → Q (.inl none) (pM G m (serves S) X')) : TC Z (d + 7) mi_X5_serves [tR (some m)] (pM G m S X) Q := by
  have loop : ∀ (r w : Nat) (S1 X1 : St) (o2 o3 o4 : Option Value), Xs X X1 → Inv S1 → w + r = (S1 0 55).toNat → servesL r w S1 = serves S → TW Z mi_X5_serves (d + 7) 2 [some (tR (some m)), some (tI (w : Int)), o2, o3, o4] [] (pM G m S1 X1) Q := by
    intro r
    induction r with
    | zero =>
      intro w S1 X1 o2 o3 o4 hX V1 hw he
      have I := V1.1
      have := I.1.2.2.2.2.2.2.2.2.2.2.1
      have q1 := q X1 hX
      rw [← he] at q1
      exact r_X5_serves_2 hM ⟨by omega, by omega, fun _ => q1, fun h => by omega⟩
    | succ r ih =>
      intro w S1 X1 o2 o3 o4 hX V1 hw he
      have hwt : ∀ w : Nat, w < (S1 0 55).toNat → WaitR S1 w := V1.1.2.2.1
      have i55 := V1.1.1.2.2.2.2.2.2.2.2.2.2.1
      have i46 := V1.1.1.2.2.2.2.2.2.2.2.1
      obtain ⟨w56, w57, w58, w59⟩ := hwt w (by omega)
      have s36 := sub36 V1.1
      simp only [servesL] at he
      refine r_X5_serves_2 hM ⟨by omega, by omega, fun h => by omega, fun _ => ⟨by omega, by omega, fun h1 => ?_, fun h1 => ?_⟩⟩
      · simp only [Int.toNat_natCast]
        refine mc_memberFor hM V1 w56 w57 (fun X2 hX2 => r_X5_serves_42 hM ?_)
        have hfw : forWait S1 w = memberFor S1 (S1 56 w) (S1 57 w) := if_neg h1
        rw [← hfw]
        by_cases h2 : forWait S1 w = -1
        · rw [if_pos h2] at he
          refine ⟨by omega, fun h => absurd h2 h, fun _ => ih (w + 1) S1 X2 _ _ _ (hX.trans hX2) V1 (by omega) he⟩
        · rw [if_neg h2] at he
          obtain ⟨v1, v2, v3⟩ := V1.srv (w := w) (by omega) h2
          have s0 : 0 ≤ memberFor S1 (S1 56 w) (S1 57 w) ∧ memberFor S1 (S1 56 w) (S1 57 w) < S1 0 38 * S1 0 39 := (member_ok V1 w57 (by rw [hfw] at h2; exact h2)).1
          rw [← hfw] at s0
          refine ⟨by omega, fun _ => ⟨by omega, ?_⟩, fun h => absurd h h2⟩
          simp only [Int.toNat_natCast]
          have V2 : Inv (addAcc (addAcc S1 11 1) 12 (S1 0 44 - S1 59 w)) := (V1.acc 11 1).acc 12 _
          have e55 : addAcc (addAcc S1 11 1) 12 (S1 0 44 - S1 59 w) 0 55 = S1 0 55 := (acc_ne (by decide)).trans (acc_ne (by decide))
          have hw2 : w < (addAcc (addAcc S1 11 1) 12 (S1 0 44 - S1 59 w) 0 55).toNat := by rw [e55]; omega
          show TC Z (d + 6) mi_X5_stopsWaiting [tR (some m), tI (w : Int)] (pM G m (addAcc (addAcc S1 11 1) 12 (S1 0 44 - S1 59 w)) X2) _
          refine mc_stopsWaiting hM V2.1 hw2 (r_X5_serves_99 hM (mc_begins hM (V2.delW hw2) w56 (by omega) (fun X3 hX3 => r_X5_serves_107 hM ?_)))
          exact ih w _ X3 _ _ _ ((hX.trans hX2).trans hX3) v1 (by show w + r = (served S1 w (forWait S1 w) 0 55).toNat; rw [v2]; omega) he
      · have hfw : forWait S1 w = -1 := if_pos h1
        rw [if_pos hfw] at he
        exact ih (w + 1) S1 X1 _ _ _ hX V1 (by omega) he
  have i55 := V.1.1.2.2.2.2.2.2.2.2.2.2.1
  exact c_X5_serves hM (loop (S 0 55).toNat 0 S X none none none Xs.rfl' V (by omega) rfl)
theorem mc_hangs {Z : ZT} {d : Nat} {G : GH} {Q : TR → GH → Prop} {m : Nat} {S X : St} {s : Int} (hM : MOK G m) (V : Ok S) (hs : 0 ≤ s ∧ s < 36) (hi : idleB S s = false) (q : ∀ X', Xs X X' → Q (.inl (some (tI (hangs S s).1))) (pM G m (hangs S s).2 X')) : TC Z (d + 8) mi_X5_hangs [tR (some m), tI s] (pM G m S X) Q := by
  have I := V.1.1
  obtain ⟨⟨i38, i39, i40, i41, i42, i43, i44, i45, i46, i47, i55, i60⟩, irow, iwait, igrp⟩ := id I
  have r1 := callWith_rng (S := S) (s := s)
  have r2 := waitAt_rng (S := S) (s := s)
  refine c_X5_hangs hM (mc_callWith hM I (by omega) (r_X5_hangs_5 hM ⟨by omega, fun h => ⟨by omega, ?_⟩, fun h => ?_⟩))
  · have e : hangs S s = (S 48 (callWith S s).toNat, serves (addAcc (delRow S (callWith S s).toNat) 6 1)) := if_neg h
    rw [e] at q
    obtain ⟨c, hc⟩ : ∃ n : Nat, callWith S s = (n : Int) := ⟨(callWith S s).toNat, by omega⟩
    rw [hc] at q r1 ⊢
    simp only [Int.toNat_natCast] at q ⊢
    have V2 := V.del (p := c) (by omega) (k := 6) (by omega)
    exact mc_ends hM I (by omega) (r_X5_hangs_37 hM (mc_serves hM V2.1 (fun X1 hX1 => r_X5_hangs_52 hM (q X1 hX1))))
  · have hw : waitAt S s ≠ -1 := fun e => by rw [idle_iff.mpr ⟨h, e⟩] at hi; cases hi
    have e : hangs S s = (-1, serves (delWait S (waitAt S s).toNat)) := if_pos h
    rw [e] at q
    refine mc_waiterPlace hM I (by omega) (r_X5_hangs_19 hM ?_)
    obtain ⟨c, hc⟩ : ∃ n : Nat, waitAt S s = (n : Int) := ⟨(waitAt S s).toNat, by omega⟩
    rw [hc] at q r2 ⊢
    simp only [Int.toNat_natCast] at q
    exact mc_stopsWaiting hM I (by omega) (r_X5_hangs_22 hM (mc_serves hM (V.1.delW (by omega)) (fun X1 hX1 => r_X5_hangs_52 hM (q X1 hX1))))
theorem mc_passes {Z : ZT} {d : Nat} {G : GH} {Q : TR → GH → Prop} {m : Nat} {S X : St} (hM : MOK G m) (V : Ok S) (ht : S 0 44 < 100000) (q : ∀ X', Xs X X' → Q (.inl (some (tI (passes S).1))) (pM G m (passes S).2 X')) : TC Z (d + 8) mi_X5_passes [tR (some m)] (pM G m S X) Q := by
  have loop : ∀ (r c : Nat) (e : Int) (S1 : St), Ok S1 → c + r = (S1 0 47).toNat → ((endsL r c e S1).1, serves (endsL r c e S1).2) = passes S → TW Z mi_X5_passes (d + 8) 14 [some (tR (some m)), some (tI e), some (tI (c : Int))] [] (pM G m S1 X) Q := by
    intro r
    induction r with
    | zero =>
      intro c e S1 V1 hc he
      have I := V1.1.1
      have i47 := I.1.2.2.2.2.2.2.2.2.2.1
      rw [← he] at q
      exact r_X5_passes_14 hM ⟨by omega, by omega, fun _ => mc_serves hM V1.1 (fun X1 hX1 => r_X5_passes_82 hM (q X1 hX1)), fun h => by omega⟩
    | succ r ih =>
      intro c e S1 V1 hc he
      have I := V1.1.1
      have i47 := I.1.2.2.2.2.2.2.2.2.2.1
      have i44 := I.1.2.2.2.2.2.2.1
      obtain ⟨r48, r49, r50, r51, r52, r53⟩ : RowR S1 c := I.2.1 c (by omega)
      refine r_X5_passes_14 hM ⟨by omega, by omega, fun h => by omega, fun _ => ⟨by omega, ?_⟩⟩
      simp only [Int.toNat_natCast]
      simp only [endsL] at he
      by_cases hd : dueB S1 c = true
      · rw [if_pos hd] at he
        unfold dueB at hd
        simp only [decide_eq_true_eq] at hd
        refine ⟨by omega, fun h => by omega, fun _ => ⟨by omega, by omega, fun h => absurd hd.2 h, fun _ => mc_ends hM I (by omega) (r_X5_passes_56 hM ?_)⟩⟩
        exact ih c (e + 1) (addAcc (delRow S1 c) 0 1) (V1.del (by omega) (Or.inl rfl)) (by rw [acc_0, delRow_47]; omega) he
      · rw [if_neg hd] at he
        have go := ih (c + 1) e S1 V1 (by omega) he
        unfold dueB at hd
        simp only [decide_eq_true_eq] at hd
        exact ⟨by omega, fun _ => go, fun h => ⟨by omega, by omega, fun _ => go, fun h2 => absurd ⟨by omega, h2⟩ hd⟩⟩
  have I := V.1.1
  obtain ⟨⟨i38, i39, i40, i41, i42, i43, i44, i45, i46, i47, i55, i60⟩, irow, iwait, igrp⟩ := id I
  have V1 := V.tick (v := S 0 44 + 1) (by omega)
  exact c_X5_passes hM (loop (S 0 47).toNat 0 0 _ V1 (by rw [up2_ne (Or.inr (by decide))]; omega) rfl)
