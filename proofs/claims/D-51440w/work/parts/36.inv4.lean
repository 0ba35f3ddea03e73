/-! THE PURE PICTURE, 5: ticks, cuts, packing keep the invariant; all calls lie on a middle, and the accounts of calls are even -/
def Laid (S : St) : Prop := ∀ c : Nat, c < (S 0 47).toNat → S 51 c ≠ -1
def Gap (S : St) : Prop := S 0 46 = S 65 0 + S 65 6 + S 65 7 + S 0 47
def Ok (S : St) : Prop := Inv S ∧ Laid S ∧ Gap S
theorem acc_ne {S : St} {k : Nat} {v : Int} {f c : Nat} (h : f ≠ 65) : addAcc S k v f c = S f c := up2_ne (Or.inl h)
theorem acc_0 {S : St} {k : Nat} {v : Int} {c : Nat} : addAcc S k v 0 c = S 0 c := up2_ne (Or.inl (by decide))
theorem acc_65 {S : St} {k : Nat} {v : Int} {c : Nat} (h : c ≠ k) : addAcc S k v 65 c = S 65 c := up2_ne (Or.inr h)
theorem acc_at {S : St} {k : Nat} {v : Int} : addAcc S k v 65 k = S 65 k + v := up2_at
theorem Laid.eq {S S' : St} (L : Laid S) (h : S' 0 47 = S 0 47) (h' : ∀ c, S' 51 c = S 51 c) : Laid S' := fun c hc => by
  rw [h] at hc
  rw [h']
  exact L c hc
theorem Gap.eq {S S' : St} (L : Gap S) (h : S' 0 47 = S 0 47) (h1 : S' 0 46 = S 0 46) (h0 : S' 65 0 = S 65 0) (h6 : S' 65 6 = S 65 6) (h7 : S' 65 7 = S 65 7) : Gap S' := by
  unfold Gap at L ⊢
  rw [h, h1, h0, h6, h7]
  exact L
theorem Laid.del {S : St} (L : Laid S) {p : Nat} (hp : p < (S 0 47).toNat) : Laid (delRow S p) := by
  intro c hc
  rw [delRow_47] at hc
  rw [delRow_row (by decide) (by decide) (by omega)]
  exact L _ (by unfold shf; split <;> omega)
/-- a call ends -/
theorem Ok.del {S : St} (V : Ok S) {p : Nat} (hp : p < (S 0 47).toNat) {k : Nat} (hk : k = 0 ∨ k = 6 ∨ k = 7) : Ok (addAcc (delRow S p) k 1) := by
  obtain ⟨V, L, g⟩ := V
  refine ⟨(V.del hp).acc _ _, (L.del hp).eq (acc_ne (by decide)) (fun c => acc_ne (by decide)), ?_⟩
  unfold Gap at g ⊢
  rw [acc_0, acc_0, delRow_0 (by decide), delRow_47]
  rcases hk with rfl | rfl | rfl
  · rw [acc_at, acc_65 (by decide), acc_65 (by decide), delRow_off (by decide), delRow_off (by decide), delRow_off (by decide)]; omega
  · rw [acc_at, acc_65 (by decide), acc_65 (by decide), delRow_off (by decide), delRow_off (by decide), delRow_off (by decide)]; omega
  · rw [acc_at, acc_65 (by decide), acc_65 (by decide), delRow_off (by decide), delRow_off (by decide), delRow_off (by decide)]; omega
theorem Ok.acc {S : St} (V : Ok S) {k : Nat} {v : Int} (h0 : k ≠ 0) (h6 : k ≠ 6) (h7 : k ≠ 7) : Ok (addAcc S k v) :=
  ⟨V.1.acc _ _, V.2.1.eq (acc_ne (by decide)) (fun c => acc_ne (by decide)), V.2.2.eq (acc_ne (by decide)) (acc_ne (by decide)) (acc_65 (by omega)) (acc_65 (by omega)) (acc_65 (by omega))⟩
theorem route_65 {S : St} {i j rule low : Int} {chains counts : Bool} {k : Nat} (h8 : k ≠ 8) (h9 : k ≠ 9) : (route S i j rule chains low counts).2 65 k = S 65 k := by
  unfold route
  split
  · split
    · rfl
    · show tookS _ _ _ 65 k = _
      unfold tookS
      rw [up2_ne (Or.inr h9), up2_ne (Or.inr h8), flipL_off (by decide) (by decide)]
  · rfl
theorem flipL_54 {p q : Int} {f x : Nat} (h1 : f ≠ 51) : ∀ (l : List Nat) (S : St), flipL p q false l S f x = S f x := by
  intro l
  induction l with
  | nil => intro S; rfl
  | cons c l ih =>
    intro S
    refine (ih _).trans ?_
    by_cases h : f = 54 ∧ x = c
    · obtain ⟨rfl, rfl⟩ := h
      rw [up2_at]
      exact Int.add_zero _
    · rw [up2_ne (by omega), up2_ne (Or.inl h1)]
theorem route_off {S : St} {i j rule low : Int} {chains : Bool} {f x : Nat} (h : f ≠ 51) : (route S i j rule chains low false).2 f x = S f x := by
  unfold route
  split
  · split
    · rfl
    · show tookS _ _ _ f x = _
      unfold tookS
      by_cases h9 : f = 65 ∧ x = 9
      · obtain ⟨rfl, rfl⟩ := h9
        rw [up2_at]
        exact Int.add_zero _
      · rw [up2_ne (by omega)]
        by_cases h8 : f = 65 ∧ x = 8
        · obtain ⟨rfl, rfl⟩ := h8
          rw [up2_at]
          exact Int.add_zero _
        · rw [up2_ne (by omega), flipL_54 h]
  · rfl
/-- a call begins -/
theorem Ok.beg {S : St} (V : Ok S) {fr to last : Int} (hfr : 0 ≤ fr ∧ fr < S 0 38 * S 0 39) (hto : 0 ≤ to ∧ to < S 0 38 * S 0 39) (hne : fr ≠ to) (ifr : idleB S fr = true) (ito : idleB S to = true) (hl : 0 ≤ last ∧ last ≤ 99) (hb : S 0 46 < 200)
    (hbl : blockedB S (fr.tdiv (S 0 39)) (to.tdiv (S 0 39)) = false) : Ok (begins S fr to last) := by
  have I := V.1.1
  obtain ⟨⟨i38, i39, i40, i41, i42, i43, i44, i45, i46, i47, i55, i60⟩, irow, iwait, igrp⟩ := id I
  refine ⟨V.1.beg hfr hto hne ifr ito hl hb hbl, ?_, ?_⟩
  · obtain ⟨a1, a2, a3, a4⟩ := route_ok V.1 (i := fr.tdiv (S 0 39)) (j := to.tdiv (S 0 39)) (rule := S 0 43) (chains := decide (S 0 42 = 1)) (low := S 0 40) (counts := true)
    have rs := route_some I (rule := S 0 43) (counts := true) hbl
    intro c hc
    unfold begins at hc ⊢
    rw [addRow_47, a2 0 47 (by decide) (by decide) (by decide)] at hc
    by_cases h : c = (S 0 47).toNat
    · have e := (addRow_at (S := (route S (fr.tdiv (S 0 39)) (to.tdiv (S 0 39)) (S 0 43) (decide (S 0 42 = 1)) (S 0 40) true).2) (fr := fr) (to := to) (last := last) (m := (route S (fr.tdiv (S 0 39)) (to.tdiv (S 0 39)) (S 0 43) (decide (S 0 42 = 1)) (S 0 40) true).1)).2.2.2.1
      rw [a2 0 47 (by decide) (by decide) (by decide), ← h] at e
      rw [e]
      exact rs
    · rw [addRow_off (by decide) (Or.inl (by rw [a2 0 47 (by decide) (by decide) (by decide)]; exact h))]
      intro e
      exact V.2.1 c (by omega) ((a3 c).mp e)
  · have g := V.2.2
    unfold Gap at g ⊢
    unfold begins
    have a2 := (route_ok V.1 (i := fr.tdiv (S 0 39)) (j := to.tdiv (S 0 39)) (rule := S 0 43) (chains := decide (S 0 42 = 1)) (low := S 0 40) (counts := true)).2.1
    rw [addRow_46, addRow_47, addRow_off (by decide) (Or.inr (Or.inr (by decide))), addRow_off (by decide) (Or.inr (Or.inr (by decide))), addRow_off (by decide) (Or.inr (Or.inr (by decide))), route_65 (by decide) (by decide), route_65 (by decide) (by decide), route_65 (by decide) (by decide),
      a2 0 46 (by decide) (by decide) (by decide), a2 0 47 (by decide) (by decide) (by decide)]
    omega
theorem beg_44 {S : St} (V : Inv S) {fr to last : Int} : begins S fr to last 0 44 = S 0 44 := by
  unfold begins
  rw [addRow_0 (by decide) (by decide) (by decide), (route_ok V).2.1 0 44 (by decide) (by decide) (by decide)]
theorem Ok.srv {S : St} (V : Ok S) {w : Nat} (hw : w < (S 0 55).toNat) (h : forWait S w ≠ -1) : Ok (served S w (forWait S w)) := by
  have I := V.1.1
  obtain ⟨⟨i38, i39, i40, i41, i42, i43, i44, i45, i46, i47, i55, i60⟩, irow, iwait, igrp⟩ := id I
  obtain ⟨C, r1, r2, r3, r4, r5, r6, r7, r8, r9, r10, r11⟩ := id V.1.2
  obtain ⟨w56, w57, w58, w59⟩ := iwait w hw
  have hb : S 0 46 ≠ 200 := fun e => h (if_pos e)
  have ef : forWait S w = memberFor S (S 56 w) (S 57 w) := if_neg hb
  refine ⟨(V.1.srv hw h).1, ?_, ?_⟩
  · rw [ef] at h ⊢
    obtain ⟨s0, s1⟩ := member_ok V.1 w57 h
    obtain ⟨m1, m2, m3⟩ := memOK_iff.mp s1
    have m3 := m3 rfl
    have E : Eqr S (delWait (addAcc (addAcc S 11 1) 12 (S 0 44 - S 59 w)) w) := (eqr_acc.trans eqr_acc).trans eqr_delW
    have V2 : Inv (delWait (addAcc (addAcc S 11 1) 12 (S 0 44 - S 59 w)) w) := ((V.1.acc 11 1).acc 12 _).delW (by rw [acc_0, acc_0]; exact hw)
    have e39 : delWait (addAcc (addAcc S 11 1) 12 (S 0 44 - S 59 w)) w 0 39 = S 0 39 := E.1.2.1
    obtain ⟨a1, a2, a3, a4⟩ := route_ok V2 (i := (S 56 w).tdiv (delWait (addAcc (addAcc S 11 1) 12 (S 0 44 - S 59 w)) w 0 39)) (j := (memberFor S (S 56 w) (S 57 w)).tdiv (delWait (addAcc (addAcc S 11 1) 12 (S 0 44 - S 59 w)) w 0 39)) (rule := delWait (addAcc (addAcc S 11 1) 12 (S 0 44 - S 59 w)) w 0 43) (chains := decide (delWait (addAcc (addAcc S 11 1) 12 (S 0 44 - S 59 w)) w 0 42 = 1)) (low := delWait (addAcc (addAcc S 11 1) 12 (S 0 44 - S 59 w)) w 0 40) (counts := true)
    have rs := route_some V2.1 (i := (S 56 w).tdiv (delWait (addAcc (addAcc S 11 1) 12 (S 0 44 - S 59 w)) w 0 39)) (j := (memberFor S (S 56 w) (S 57 w)).tdiv (delWait (addAcc (addAcc S 11 1) 12 (S 0 44 - S 59 w)) w 0 39)) (rule := delWait (addAcc (addAcc S 11 1) 12 (S 0 44 - S 59 w)) w 0 43) (counts := true) (by rw [E.blocked, e39]; exact m3)
    have e47 := a2 0 47 (by decide) (by decide) (by decide)
    rw [E.1.2.2.2.2.2.2] at e47
    intro c hc
    unfold served begins at hc ⊢
    rw [addRow_47, e47] at hc
    by_cases hcn : c = (S 0 47).toNat
    · rw [hcn, ← e47, addRow_at.2.2.2.1]
      exact rs
    · rw [addRow_off (by decide) (Or.inl (by rw [e47]; exact hcn))]
      intro e
      refine V.2.1 c (by omega) ?_
      rw [← E.2 51 c (by decide)]
      exact (a3 c).mp e
  · have g := V.2.2
    unfold Gap at g ⊢
    have V2 : Inv (delWait (addAcc (addAcc S 11 1) 12 (S 0 44 - S 59 w)) w) := ((V.1.acc 11 1).acc 12 _).delW (by rw [acc_0, acc_0]; exact hw)
    have hd : ∀ k, k ≠ 55 → delWait (addAcc (addAcc S 11 1) 12 (S 0 44 - S 59 w)) w 0 k = S 0 k := fun k hk => (delWait_0 hk).trans ((acc_ne (by decide)).trans (acc_ne (by decide)))
    have h65 : ∀ k, k ≠ 11 → k ≠ 12 → delWait (addAcc (addAcc S 11 1) 12 (S 0 44 - S 59 w)) w 65 k = S 65 k := fun k h1 h2 => (delWait_off (by decide) (by decide)).trans ((acc_65 h2).trans (acc_65 h1))
    have a2 := (route_ok V2 (i := (S 56 w).tdiv (delWait (addAcc (addAcc S 11 1) 12 (S 0 44 - S 59 w)) w 0 39)) (j := (forWait S w).tdiv (delWait (addAcc (addAcc S 11 1) 12 (S 0 44 - S 59 w)) w 0 39)) (rule := delWait (addAcc (addAcc S 11 1) 12 (S 0 44 - S 59 w)) w 0 43) (chains := decide (delWait (addAcc (addAcc S 11 1) 12 (S 0 44 - S 59 w)) w 0 42 = 1)) (low := delWait (addAcc (addAcc S 11 1) 12 (S 0 44 - S 59 w)) w 0 40) (counts := true)).2.1
    unfold served begins
    rw [addRow_46, addRow_47, addRow_off (by decide) (Or.inr (Or.inr (by decide))), addRow_off (by decide) (Or.inr (Or.inr (by decide))), addRow_off (by decide) (Or.inr (Or.inr (by decide))), route_65 (by decide) (by decide), route_65 (by decide) (by decide), route_65 (by decide) (by decide),
      a2 0 46 (by decide) (by decide) (by decide), a2 0 47 (by decide) (by decide) (by decide), h65 0 (by decide) (by decide), h65 6 (by decide) (by decide), h65 7 (by decide) (by decide), hd 46 (by decide), hd 47 (by decide)]
    omega
theorem Ok.srvL : ∀ (r w : Nat) (S : St), Ok S → w + r = (S 0 55).toNat → Ok (servesL r w S) ∧ servesL r w S 0 44 = S 0 44 := by
  intro r
  induction r with
  | zero => intro w S V _; exact ⟨V, rfl⟩
  | succ r ih =>
    intro w S V h
    have I := V.1.1
    obtain ⟨⟨i38, i39, i40, i41, i42, i43, i44, i45, i46, i47, i55, i60⟩, irow, iwait, igrp⟩ := id I
    simp only [servesL]
    split
    · exact ih (w + 1) S V (by omega)
    · rename_i hn
      obtain ⟨a, b, c⟩ := V.1.srv (by omega) hn
      obtain ⟨d, e⟩ := ih w _ (V.srv (by omega) hn) (by rw [b]; omega)
      exact ⟨d, e.trans c⟩
theorem Ok.srvs {S : St} (V : Ok S) : Ok (serves S) ∧ serves S 0 44 = S 0 44 := Ok.srvL _ _ S V (by omega)
/-- time -/
theorem endsL_ok : ∀ (r c : Nat) (e : Int) (S : St), Ok S → c + r = (S 0 47).toNat → Ok (endsL r c e S).2 ∧ (endsL r c e S).2 0 44 = S 0 44 ∧ (e ≤ (endsL r c e S).1 ∧ (endsL r c e S).1 ≤ e + r) := by
  intro r
  induction r with
  | zero => intro c e S V _; exact ⟨V, rfl, by simp only [endsL]; omega⟩
  | succ r ih =>
    intro c e S V h
    have I := V.1.1
    obtain ⟨⟨i38, i39, i40, i41, i42, i43, i44, i45, i46, i47, i55, i60⟩, irow, iwait, igrp⟩ := id I
    simp only [endsL]
    split
    · obtain ⟨a, x, y⟩ := ih c (e + 1) (addAcc (delRow S c) 0 1) (V.del (by omega) (Or.inl rfl)) (by rw [acc_0, delRow_47]; omega)
      exact ⟨a, x.trans ((acc_ne (by decide)).trans (delRow_0 (by decide))), by omega⟩
    · obtain ⟨a, x, y⟩ := ih (c + 1) e S V (by omega)
      exact ⟨a, x, by omega⟩
theorem Ok.tick {S : St} (V : Ok S) {v : Int} (h : 0 ≤ v ∧ v ≤ 100000) : Ok (up2 S 0 44 v) :=
  ⟨V.1.tick h, V.2.1.eq (up2_ne (Or.inr (by decide))) (fun c => up2_ne (Or.inl (by decide))), V.2.2.eq (up2_ne (Or.inr (by decide))) (up2_ne (Or.inr (by decide))) (up2_ne (Or.inl (by decide))) (up2_ne (Or.inl (by decide))) (up2_ne (Or.inl (by decide)))⟩
theorem Ok.mode {S : St} (V : Ok S) {v : Int} (h : 0 ≤ v ∧ v ≤ 1) : Ok (up2 S 0 42 v) :=
  ⟨V.1.mode h, V.2.1.eq (up2_ne (Or.inr (by decide))) (fun c => up2_ne (Or.inl (by decide))), V.2.2.eq (up2_ne (Or.inr (by decide))) (up2_ne (Or.inr (by decide))) (up2_ne (Or.inl (by decide))) (up2_ne (Or.inl (by decide))) (up2_ne (Or.inl (by decide)))⟩
theorem Ok.hunt {S : St} (V : Ok S) {v : Int} (h : 0 ≤ v ∧ v ≤ 2) : Ok (up2 S 0 43 v) :=
  ⟨V.1.hunt h, V.2.1.eq (up2_ne (Or.inr (by decide))) (fun c => up2_ne (Or.inl (by decide))), V.2.2.eq (up2_ne (Or.inr (by decide))) (up2_ne (Or.inr (by decide))) (up2_ne (Or.inl (by decide))) (up2_ne (Or.inl (by decide))) (up2_ne (Or.inl (by decide)))⟩
theorem Ok.pss {S : St} (V : Ok S) (h : S 0 44 < 100000) : Ok (passes S).2 ∧ (passes S).2 0 44 = S 0 44 + 1 ∧ (0 ≤ (passes S).1 ∧ (passes S).1 ≤ 18) := by
  have I := V.1.1
  obtain ⟨⟨i38, i39, i40, i41, i42, i43, i44, i45, i46, i47, i55, i60⟩, irow, iwait, igrp⟩ := id I
  have V1 := V.tick (v := S 0 44 + 1) (by omega)
  obtain ⟨a, b, c⟩ := endsL_ok (S 0 47).toNat 0 0 _ V1 (by rw [up2_ne (Or.inr (by decide))]; omega)
  obtain ⟨x, y⟩ := a.srvs
  rw [up2_at] at b
  exact ⟨x, y.trans b, ⟨c.1, by have := c.2; show (endsL _ _ _ _).1 ≤ 18; omega⟩⟩
theorem Ok.ticks : ∀ (r : Nat) (e : Int) (S : St), Ok S → S 0 44 + r ≤ 100000 → Ok (ticksL r e S).2 ∧ (ticksL r e S).2 0 44 = S 0 44 + r ∧ (e ≤ (ticksL r e S).1 ∧ (ticksL r e S).1 ≤ e + 18 * r) := by
  intro r
  induction r with
  | zero => intro e S V _; exact ⟨V, (Int.add_zero _).symm, by simp only [ticksL]; omega⟩
  | succ r ih =>
    intro e S V h
    obtain ⟨a, b, c⟩ := V.pss (by omega)
    obtain ⟨x, y, z⟩ := ih (e + (passes S).1) (passes S).2 a (by omega)
    simp only [ticksL]
    exact ⟨x, by rw [y, b]; omega, by omega⟩
theorem Ok.hng {S : St} (V : Ok S) {s : Int} (h : idleB S s = false) : Ok (hangs S s).2 ∧ (hangs S s).2 0 44 = S 0 44 := by
  have I := V.1.1
  obtain ⟨⟨i38, i39, i40, i41, i42, i43, i44, i45, i46, i47, i55, i60⟩, irow, iwait, igrp⟩ := id I
  have r1 := callWith_rng (S := S) (s := s)
  have r2 := waitAt_rng (S := S) (s := s)
  unfold hangs
  split
  · rename_i hc
    have hw : waitAt S s ≠ -1 := fun e => by rw [idle_iff.mpr ⟨hc, e⟩] at h; cases h
    obtain ⟨x, y⟩ := Ok.srvs (S := delWait S (waitAt S s).toNat) ⟨V.1.delW (by omega), V.2.1.eq (delWait_0 (by decide)) (fun c => delWait_off (by decide) (by decide)), V.2.2.eq (delWait_0 (by decide)) (delWait_0 (by decide)) (delWait_off (by decide) (by decide)) (delWait_off (by decide) (by decide)) (delWait_off (by decide) (by decide))⟩
    exact ⟨x, y.trans (delWait_0 (by decide))⟩
  · obtain ⟨x, y⟩ := (V.del (p := (callWith S s).toNat) (by omega) (k := 6) (by omega)).srvs
    exact ⟨x, y.trans ((acc_ne (by decide)).trans (delRow_0 (by decide)))⟩
theorem Ok.cup {S : St} (V : Ok S) {fr to last : Int} (hfr : 0 ≤ fr ∧ fr < S 0 38 * S 0 39) (hto : 0 ≤ to ∧ to < S 0 38 * S 0 39) (hne : fr ≠ to) (hl : 0 ≤ last ∧ last ≤ 99) : Ok (callsUp S fr to last).2 ∧ (callsUp S fr to last).2 0 44 = S 0 44 := by
  have I := V.1.1
  obtain ⟨⟨i38, i39, i40, i41, i42, i43, i44, i45, i46, i47, i55, i60⟩, irow, iwait, igrp⟩ := id I
  unfold callsUp
  split
  · rename_i h
    unfold reasonNot at h
    split at h
    · cases h
    · rename_i h1
      split at h
      · cases h
      · rename_i h2
        split at h
        · cases h
        · rename_i h3
          split at h
          · cases h
          · rename_i h4
            exact ⟨V.beg hfr hto hne (by simpa using h1) (by simpa using h2) hl (by omega) (by simpa using h4), beg_44 (last := last) V.1⟩
  · rename_i h
    have hr : 0 ≤ reasonNot S fr to ∧ reasonNot S fr to ≤ 4 := by unfold reasonNot; split <;> (try split) <;> (try split) <;> (try split) <;> omega
    exact ⟨V.acc (k := (reasonNot S fr to).toNat) (v := 1) (by omega) (by omega) (by omega), by dsimp only; exact acc_0⟩
theorem Ok.dls {S : St} (V : Ok S) {fr g last : Int} (hfr : 0 ≤ fr ∧ fr < S 0 38 * S 0 39) (hg : 0 ≤ g ∧ g < S 0 60) (hl : 0 ≤ last ∧ last ≤ 99) : Ok (dials S fr g last).2 ∧ (dials S fr g last).2 0 44 = S 0 44 := by
  have I := V.1.1
  obtain ⟨⟨i38, i39, i40, i41, i42, i43, i44, i45, i46, i47, i55, i60⟩, irow, iwait, igrp⟩ := id I
  unfold dials
  split
  · exact ⟨V.acc (by decide) (by decide) (by decide), by dsimp only; exact acc_0⟩
  · rename_i h1
    have h1 : idleB S fr = true := by simpa using h1
    split
    · exact ⟨V.acc (by decide) (by decide) (by decide), by dsimp only; exact acc_0⟩
    · rename_i h2
      split
      · rename_i h3
        obtain ⟨s0, s1⟩ := member_ok V.1 hg h3
        obtain ⟨m1, m2, m3⟩ := memOK_iff.mp s1
        exact ⟨V.beg hfr s0 m1.symm h1 m2 hl (by omega) (m3 rfl), beg_44 (last := last) V.1⟩
      · split
        · exact ⟨V.acc (by decide) (by decide) (by decide), by dsimp only; exact acc_0⟩
        · split
          · exact ⟨V.acc (by decide) (by decide) (by decide), by dsimp only; exact acc_0⟩
          · rename_i h5
            have e : ∀ f c, f < 56 ∨ 59 < f → (f ≠ 0 ∨ c ≠ 55) → addWait S fr g last f c = S f c := by
              intro f c hf hc
              unfold addWait
              rw [up2_ne (by omega), up2_ne (by omega), up2_ne (by omega), up2_ne (by omega), up2_ne (by omega)]
            exact ⟨⟨V.1.addW hfr hg hl h1 h5, V.2.1.eq (e 0 47 (by decide) (by decide)) (fun c => e 51 c (by decide) (Or.inl (by decide))), V.2.2.eq (e 0 47 (by decide) (by decide)) (e 0 46 (by decide) (by decide)) (e 65 0 (by decide) (by decide)) (e 65 6 (by decide) (by decide)) (e 65 7 (by decide) (by decide))⟩, e 0 44 (by decide) (by decide)⟩
