/-! THE PURE PICTURE, 4: what paths depend on; serving keeps the invariant -/
/-- the same for paths -/
def Eqr (S S' : St) : Prop := (S' 0 38 = S 0 38 ∧ S' 0 39 = S 0 39 ∧ S' 0 40 = S 0 40 ∧ S' 0 41 = S 0 41 ∧ S' 0 42 = S 0 42 ∧ S' 0 45 = S 0 45 ∧ S' 0 47 = S 0 47) ∧ ∀ f c, f = 49 ∨ f = 50 ∨ f = 51 → S' f c = S f c
section EQR
variable {S S' : St}
theorem Eqr.eend (E : Eqr S S') : endS S' = endS S := by
  funext c b
  unfold endS fromS toS
  rw [E.1.2.1, E.2 49 c (by decide), E.2 50 c (by decide)]
theorem Eqr.carried (E : Eqr S S') : carriedAt S' = carriedAt S := by
  funext m s b
  unfold carriedAt
  rw [E.1.2.2.2.2.2.2, E.eend]
  exact fnd_congr _ _ (fun x _ _ => by rw [E.2 51 x (by decide)])
theorem Eqr.load (E : Eqr S S') : loadOf S' = loadOf S := by
  funext m
  unfold loadOf
  rw [E.1.2.2.2.2.2.2]
  exact sumI_congr _ _ (fun x _ _ => by rw [E.2 51 x (by decide)])
theorem Eqr.cut (E : Eqr S S') : isCutB S' = isCutB S := by
  funext m
  unfold isCutB
  rw [E.1.2.2.2.1]
theorem Eqr.there (E : Eqr S S') : isThereB S' = isThereB S := by
  funext m low
  unfold isThereB
  rw [E.cut]
theorem Eqr.opn (E : Eqr S S') : isOpenB S' = isOpenB S := by
  funext m i j low
  unfold isOpenB
  rw [E.there, E.carried]
theorem Eqr.hm (E : Eqr S S') : huntM S' = huntM S := by
  funext r k
  unfold huntM
  rw [E.1.2.2.1, E.1.2.2.2.2.2.1]
theorem Eqr.hl (E : Eqr S S') {i j rule low : Int} : ∀ (r k : Nat) (best : Int), huntL S' i j rule low r k best = huntL S i j rule low r k best := by
  intro r
  induction r with
  | zero => intro k best; rfl
  | succ r ih =>
    intro k best
    simp only [huntL]
    rw [E.opn, E.hm, E.load, ih]
theorem Eqr.hd (E : Eqr S S') {i j rule low : Int} : hunted S' i j rule low = hunted S i j rule low := by
  unfold hunted
  rw [E.1.2.2.1, E.hl]
theorem Eqr.wl (E : Eqr S S') {p q : Int} : ∀ (r : Nat) (c : Int) (b : Bool), walkL S' p q r c b = walkL S p q r c b := by
  intro r
  induction r with
  | zero => intro c b; rfl
  | succ r ih =>
    intro c b
    simp only [walkL]
    rw [ih, E.carried, E.eend, E.2 51 _ (by decide)]
theorem Eqr.ws (E : Eqr S S') {p q i j : Int} {b : Bool} : walkS S' p q i j b = walkS S p q i j b := by
  unfold walkS
  rw [E.wl, E.carried]
theorem Eqr.cs (E : Eqr S S') {i j p q : Int} {b : Bool} {o : Option Ch} : chStep S' i j p q b o = chStep S i j p q b o := by
  unfold chStep
  rw [E.ws]
theorem Eqr.cq (E : Eqr S S') {i j low p : Int} : ∀ (r k : Nat) (o : Option Ch), chQ S' i j low p r k o = chQ S i j low p r k o := by
  intro r
  induction r with
  | zero => intro k best; rfl
  | succ r ih =>
    intro k best
    simp only [chQ]
    rw [ih, E.there, E.carried, E.cs, E.cs]
theorem Eqr.cp (E : Eqr S S') {i j low : Int} : ∀ (r k : Nat) (o : Option Ch), chP S' i j low r k o = chP S i j low r k o := by
  intro r
  induction r with
  | zero => intro k best; rfl
  | succ r ih =>
    intro k best
    simp only [chP]
    rw [ih, E.there, E.carried, E.1.2.2.1, E.cq]
theorem Eqr.ch (E : Eqr S S') {i j low : Int} : chain S' i j low = chain S i j low := by
  unfold chain
  rw [E.1.2.2.1, E.cp]
theorem Eqr.blocked (E : Eqr S S') {i j : Int} : blockedB S' i j = blockedB S i j := by
  unfold blockedB
  rw [E.hd, E.ch, E.1.2.2.1, E.1.2.2.2.2.1]
theorem Eqr.callW (E : Eqr S S') {s : Int} : callWith S' s = callWith S s := callWith_congr E.1.2.2.2.2.2.2 (fun c _ => ⟨E.2 49 c (by decide), E.2 50 c (by decide)⟩)
end EQR
theorem eqr_acc {S : St} {k : Nat} {v : Int} : Eqr S (addAcc S k v) := by
  have h : ∀ f c, f ≠ 65 → addAcc S k v f c = S f c := fun f c hf => up2_ne (Or.inl hf)
  exact ⟨⟨h _ _ (by decide), h _ _ (by decide), h _ _ (by decide), h _ _ (by decide), h _ _ (by decide), h _ _ (by decide), h _ _ (by decide)⟩, fun f c hf => h f c (by omega)⟩
theorem eqr_delW {S : St} {p : Nat} : Eqr S (delWait S p) :=
  ⟨⟨delWait_0 (by decide), delWait_0 (by decide), delWait_0 (by decide), delWait_0 (by decide), delWait_0 (by decide), delWait_0 (by decide), delWait_0 (by decide)⟩, fun f c hf => delWait_off (by omega) (by omega)⟩
theorem Eqr.trans {A B C : St} (h : Eqr A B) (k : Eqr B C) : Eqr A C := by
  obtain ⟨⟨h1, h2, h3, h4, h5, h6, h7⟩, h8⟩ := h
  obtain ⟨⟨k1, k2, k3, k4, k5, k6, k7⟩, k8⟩ := k
  exact ⟨⟨k1.trans h1, k2.trans h2, k3.trans h3, k4.trans h4, k5.trans h5, k6.trans h6, k7.trans h7⟩, fun f c hf => (k8 f c hf).trans (h8 f c hf)⟩
/-- the member that is found -/
theorem memL_ok {S : St} {fr g : Int} {chk : Bool} : ∀ (r k : Nat), memL S fr g chk r k ≠ -1 → ∃ k' : Nat, k ≤ k' ∧ k' < k + r ∧ memL S fr g chk r k = S 64 (g * 8 + (k' : Int)).toNat ∧ memOK S fr (S 64 (g * 8 + (k' : Int)).toNat) chk = true := by
  intro r
  induction r with
  | zero => intro k h; exact absurd rfl h
  | succ r ih =>
    intro k h
    simp only [memL] at h ⊢
    by_cases hm : memOK S fr (S 64 (g * 8 + (k : Int)).toNat) chk = true
    · rw [if_pos hm]
      exact ⟨k, by omega, by omega, rfl, hm⟩
    · rw [if_neg hm] at h ⊢
      obtain ⟨k', h1, h2, h3⟩ := ih (k + 1) h
      exact ⟨k', by omega, by omega, h3⟩
theorem member_ok {S : St} (V : Inv S) {fr g : Int} (hg : 0 ≤ g ∧ g < S 0 60) {chk : Bool} (h : memL S fr g chk (S 63 g.toNat).toNat 0 ≠ -1) :
    (0 ≤ memL S fr g chk (S 63 g.toNat).toNat 0 ∧ memL S fr g chk (S 63 g.toNat).toNat 0 < S 0 38 * S 0 39) ∧ memOK S fr (memL S fr g chk (S 63 g.toNat).toNat 0) chk = true := by
  have I := V.1
  obtain ⟨⟨i38, i39, i40, i41, i42, i43, i44, i45, i46, i47, i55, i60⟩, irow, iwait, igrp⟩ := id I
  obtain ⟨C, r1, r2, r3, r4, r5, r6, r7, r8, r9, r10, r11⟩ := id V.2
  obtain ⟨k', h1, h2, h3, h4⟩ := memL_ok _ _ h
  rw [h3]
  obtain ⟨g1, g2, g3, g4⟩ := igrp g.toNat (by omega)
  have e : (g * 8 + (k' : Int)).toNat = 8 * g.toNat + k' := by omega
  have := g4 k' (by omega)
  have := r10 g.toNat k' (by omega) (by omega)
  rw [e] at h4 ⊢
  exact ⟨⟨by omega, by omega⟩, h4⟩
theorem memOK_iff {S : St} {fr s : Int} {chk : Bool} : memOK S fr s chk = true ↔ s ≠ fr ∧ idleB S s = true ∧ (chk = true → blockedB S (fr.tdiv (S 0 39)) (s.tdiv (S 0 39)) = false) := by
  unfold memOK
  cases chk <;> simp
/-- a waiter is served -/
theorem Inv.srv {S : St} (V : Inv S) {w : Nat} (hw : w < (S 0 55).toNat) (h : forWait S w ≠ -1) : Inv (served S w (forWait S w)) ∧ served S w (forWait S w) 0 55 = S 0 55 - 1 ∧ served S w (forWait S w) 0 44 = S 0 44 := by
  have I := V.1
  obtain ⟨⟨i38, i39, i40, i41, i42, i43, i44, i45, i46, i47, i55, i60⟩, irow, iwait, igrp⟩ := id I
  obtain ⟨C, r1, r2, r3, r4, r5, r6, r7, r8, r9, r10, r11⟩ := id V.2
  obtain ⟨w56, w57, w58, w59⟩ := iwait w hw
  have hb : S 0 46 ≠ 200 := fun e => h (if_pos e)
  have ef : forWait S w = memberFor S (S 56 w) (S 57 w) := if_neg hb
  rw [ef] at h ⊢
  obtain ⟨s0, s1⟩ := member_ok V w57 h
  obtain ⟨m1, m2, m3⟩ := memOK_iff.mp s1
  have m3 := m3 rfl
  obtain ⟨n1, n2⟩ := idle_iff.mp m2
  have s0 : 0 ≤ memberFor S (S 56 w) (S 57 w) ∧ memberFor S (S 56 w) (S 57 w) < S 0 38 * S 0 39 := s0
  generalize hs : memberFor S (S 56 w) (S 57 w) = s at *
  have hs' : memL S (S 56 w) (S 57 w) true (S 63 (S 57 w).toNat).toNat 0 = s := hs
  rw [hs'] at m1 m2 m3 n1 n2
  have hd : ∀ k, k ≠ 55 → delWait (addAcc (addAcc S 11 1) 12 (S 0 44 - S 59 w)) w 0 k = S 0 k := fun k hk => (delWait_0 hk).trans ((up2_ne (Or.inl (by decide))).trans (up2_ne (Or.inl (by decide))))
  have E : Eqr S (delWait (addAcc (addAcc S 11 1) 12 (S 0 44 - S 59 w)) w) := (eqr_acc.trans eqr_acc).trans eqr_delW
  have V2 : Inv (delWait (addAcc (addAcc S 11 1) 12 (S 0 44 - S 59 w)) w) := ((V.acc 11 1).acc 12 _).delW (by rw [show addAcc (addAcc S 11 1) 12 (S 0 44 - S 59 w) 0 55 = S 0 55 from (up2_ne (Or.inl (by decide))).trans (up2_ne (Or.inl (by decide)))]; exact hw)
  have e55 : delWait (addAcc (addAcc S 11 1) 12 (S 0 44 - S 59 w)) w 0 55 = S 0 55 - 1 := by rw [delWait_55]; congr 1
  have row : ∀ x, x < (S 0 55).toNat - 1 → delWait (addAcc (addAcc S 11 1) 12 (S 0 44 - S 59 w)) w 56 x = S 56 (shf w x) := fun x hx => by
    rw [delWait_row (by decide) (by decide) (by rw [show addAcc (addAcc S 11 1) 12 (S 0 44 - S 59 w) 0 55 = S 0 55 from (up2_ne (Or.inl (by decide))).trans (up2_ne (Or.inl (by decide)))]; omega)]
    exact (up2_ne (Or.inl (by decide))).trans (up2_ne (Or.inl (by decide)))
  have wt : ∀ z : Int, (∀ x, x < (S 0 55).toNat → x ≠ w → S 56 x ≠ z) → waitAt (delWait (addAcc (addAcc S 11 1) 12 (S 0 44 - S 59 w)) w) z = -1 := by
    intro z hz
    refine waitAt_of (fun x hx => ?_)
    rw [e55] at hx
    rw [row x (by omega)]
    refine hz _ ?_ ?_
    · unfold shf; split <;> omega
    · unfold shf; split <;> omega
  have key : Inv (begins (delWait (addAcc (addAcc S 11 1) 12 (S 0 44 - S 59 w)) w) (S 56 w) s (S 58 w)) := by
    refine V2.beg (by rw [hd 38 (by decide), hd 39 (by decide)]; exact ⟨w56.1, (r7 w hw).1⟩) (by rw [hd 38 (by decide), hd 39 (by decide)]; exact s0) m1.symm ?_ ?_ w58 (by rw [hd 46 (by decide)]; omega) (by rw [E.blocked, hd 39 (by decide)]; exact m3)
    · exact idle_iff.mpr ⟨by rw [E.callW]; exact (r7 w hw).2, wt _ (fun x hx hne => r8 x w hx hw hne)⟩
    · exact idle_iff.mpr ⟨by rw [E.callW]; exact n1, wt _ (fun x hx _ => waitAt_none n2 hx)⟩
  refine ⟨key, ?_, ?_⟩
  · show begins _ _ _ _ 0 55 = _
    unfold begins
    rw [addRow_0 (by decide) (by decide) (by decide), (route_ok V2).2.1 0 55 (by decide) (by decide) (by decide), e55]
  · show begins _ _ _ _ 0 44 = _
    unfold begins
    rw [addRow_0 (by decide) (by decide) (by decide), (route_ok V2).2.1 0 44 (by decide) (by decide) (by decide), hd 44 (by decide)]
theorem Inv.srvL : ∀ (r w : Nat) (S : St), Inv S → w + r = (S 0 55).toNat → Inv (servesL r w S) ∧ servesL r w S 0 44 = S 0 44 := by
  intro r
  induction r with
  | zero => intro w S V _; exact ⟨V, rfl⟩
  | succ r ih =>
    intro w S V h
    have I := V.1
    obtain ⟨⟨i38, i39, i40, i41, i42, i43, i44, i45, i46, i47, i55, i60⟩, irow, iwait, igrp⟩ := id I
    simp only [servesL]
    split
    · exact ih (w + 1) S V (by omega)
    · rename_i hn
      obtain ⟨a, b, c⟩ := V.srv (by omega) hn
      obtain ⟨d, e⟩ := ih w _ a (by rw [b]; omega)
      exact ⟨d, e.trans c⟩
theorem Inv.srvs {S : St} (V : Inv S) : Inv (serves S) ∧ serves S 0 44 = S 0 44 := Inv.srvL _ _ S V (by omega)
