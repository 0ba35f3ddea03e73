/-! THE EXCHANGE, 18: accounts commute with a call's beginning -/
section COMM
variable {S S' T : St}
theorem ext_acc {k : Nat} {v : Int} (h65 : ∀ x, x ≠ k → S 65 x = T 65 x) (hk : S 65 k = T 65 k + v) (h : ∀ f x, f ≠ 65 → S f x = T f x) : S = addAcc T k v := by
  funext f x
  by_cases hf : f = 65
  · subst hf
    by_cases hx : x = k
    · subst hx; rw [acc_at, hk]
    · rw [acc_65 hx, h65 x hx]
  · rw [acc_ne hf, h f x hf]
theorem flipL_acc {p q : Int} {b : Bool} {k : Nat} {v : Int} : ∀ (l : List Nat) (S : St), flipL p q b l (addAcc S k v) = addAcc (flipL p q b l S) k v := by
  intro l
  induction l with
  | nil => intro S; rfl
  | cons c l ih =>
    intro S
    rw [flipL, flipL, ← ih]
    congr 1
    rw [acc_ne (show (51 : Nat) ≠ 65 by decide), acc_ne (show (54 : Nat) ≠ 65 by decide)]
    refine ext_acc (fun x hx => ?_) ?_ (fun f x hf => ?_)
    · rw [up2_ne (Or.inl (by decide)), up2_ne (Or.inl (by decide)), up2_ne (Or.inl (by decide)), up2_ne (Or.inl (by decide)), acc_65 hx]
    · rw [up2_ne (Or.inl (by decide)), up2_ne (Or.inl (by decide)), up2_ne (Or.inl (by decide)), up2_ne (Or.inl (by decide)), acc_at]
    · by_cases h54 : f = 54 ∧ x = c
      · obtain ⟨rfl, rfl⟩ := h54
        rw [up2_at, up2_at]
      · have h54' : f ≠ 54 ∨ x ≠ c := if h : f = 54 then Or.inr (fun z => h54 ⟨h, z⟩) else Or.inl h
        rw [up2_ne h54', up2_ne h54']
        by_cases h51 : f = 51 ∧ x = c
        · obtain ⟨rfl, rfl⟩ := h51
          rw [up2_at, up2_at]
        · have h51' : f ≠ 51 ∨ x ≠ c := if h : f = 51 then Or.inr (fun z => h51 ⟨h, z⟩) else Or.inl h
          rw [up2_ne h51', up2_ne h51', acc_ne hf]
theorem tookS_acc {c : Ch} {b : Bool} {k : Nat} {v : Int} (h8 : k ≠ 8) (h9 : k ≠ 9) : tookS (addAcc S k v) c b = addAcc (tookS S c b) k v := by
  unfold tookS
  rw [flipL_acc, acc_65 h8.symm, acc_65 h9.symm]
  refine ext_acc (fun x hx => ?_) ?_ (fun f x hf => ?_)
  · by_cases h : x = 9
    · subst h; rw [up2_at, up2_at]
    · rw [up2_ne (Or.inr h), up2_ne (Or.inr h)]
      by_cases h' : x = 8
      · subst h'; rw [up2_at, up2_at]
      · rw [up2_ne (Or.inr h'), up2_ne (Or.inr h'), acc_65 hx]
  · rw [up2_ne (Or.inr h9), up2_ne (Or.inr h9), up2_ne (Or.inr h8), up2_ne (Or.inr h8), acc_at]
  · rw [up2_ne (Or.inl hf), up2_ne (Or.inl hf), up2_ne (Or.inl hf), up2_ne (Or.inl hf), acc_ne hf]
theorem route_acc {i j rule low : Int} {ch b : Bool} {k : Nat} {v : Int} (h8 : k ≠ 8) (h9 : k ≠ 9) : route (addAcc S k v) i j rule ch low b = ((route S i j rule ch low b).1, addAcc (route S i j rule ch low b).2 k v) := by
  have E : Eqr S (addAcc S k v) := eqr_acc
  unfold route
  rw [E.hd, E.ch]
  by_cases h : hunted S i j rule low = -1 ∧ ch = true
  · rw [if_pos h, if_pos h]
    cases chain S i j low with
    | none => rfl
    | some c => dsimp only; rw [tookS_acc h8 h9]
  · rw [if_neg h, if_neg h]
theorem up2_acc {f c k : Nat} {w v : Int} (hf : f ≠ 65) : up2 (addAcc S k v) f c w = addAcc (up2 S f c w) k v := by
  refine ext_acc (fun x hx => ?_) ?_ (fun f' x hf' => ?_)
  · rw [up2_ne (Or.inl hf.symm), up2_ne (Or.inl hf.symm), acc_65 hx]
  · rw [up2_ne (Or.inl hf.symm), up2_ne (Or.inl hf.symm), acc_at]
  · by_cases h : f' = f ∧ x = c
    · obtain ⟨rfl, rfl⟩ := h
      rw [up2_at, up2_at]
    · have h' : f' ≠ f ∨ x ≠ c := if h1 : f' = f then Or.inr (fun z => h ⟨h1, z⟩) else Or.inl h1
      rw [up2_ne h', up2_ne h', acc_ne hf']
theorem addRow_acc {fr to l m v : Int} {k : Nat} : addRow (addAcc S k v) fr to l m = addAcc (addRow S fr to l m) k v := by
  unfold addRow
  rw [acc_0, acc_0, acc_0]
  simp only [up2_acc (show (0 : Nat) ≠ 65 by decide), up2_acc (show (48 : Nat) ≠ 65 by decide), up2_acc (show (49 : Nat) ≠ 65 by decide), up2_acc (show (50 : Nat) ≠ 65 by decide), up2_acc (show (51 : Nat) ≠ 65 by decide), up2_acc (show (52 : Nat) ≠ 65 by decide), up2_acc (show (53 : Nat) ≠ 65 by decide), up2_acc (show (54 : Nat) ≠ 65 by decide)]
theorem begins_acc {fr to l v : Int} {k : Nat} (h8 : k ≠ 8) (h9 : k ≠ 9) : begins (addAcc S k v) fr to l = addAcc (begins S fr to l) k v := by
  unfold begins
  rw [acc_0, acc_0, acc_0, acc_0, route_acc h8 h9, addRow_acc]
theorem delWait_acc {w k : Nat} {v : Int} : delWait (addAcc S k v) w = addAcc (delWait S w) k v := by
  refine ext_acc (fun x hx => ?_) ?_ (fun f x hf => ?_)
  · rw [delWait_off (by decide) (Or.inr (by decide)), delWait_off (by decide) (Or.inr (by decide)), acc_65 hx]
  · rw [delWait_off (by decide) (Or.inr (by decide)), delWait_off (by decide) (Or.inr (by decide)), acc_at]
  · unfold delWait
    by_cases h : f = 0 ∧ x = 55
    · obtain ⟨rfl, rfl⟩ := h
      rw [up2_at, up2_at, acc_0]
    · have h' : f ≠ 0 ∨ x ≠ 55 := if h1 : f = 0 then Or.inr (fun z => h ⟨h1, z⟩) else Or.inl h1
      rw [up2_ne h', up2_ne h', acc_0]
      split <;> exact acc_ne hf
theorem begin_12 {fr to l a : Int} : begins S fr to l 65 11 = S 65 11 ∧ begins S fr to l 65 12 = S 65 12 := by
  unfold begins
  rw [addRow_off (by decide) (Or.inr (Or.inr (by decide))), addRow_off (by decide) (Or.inr (Or.inr (by decide)))]
  exact ⟨route_65 (by decide) (by decide), route_65 (by decide) (by decide)⟩
/-- what serving a waiter makes, in the order of the code -/
theorem served_eq {w : Nat} {s : Int} : served S w s = addAcc (addAcc (begins (delWait S w) (S 56 w) s (S 58 w)) 11 1) 12 (S 0 44 - S 59 w) := by
  unfold served
  rw [delWait_acc, delWait_acc, begins_acc (by decide) (by decide), begins_acc (by decide) (by decide)]
end COMM
section SERVE
variable {Z : ZT} {d : Nat} {G : GH} {Q : TR → GH → Prop} {e b : Nat} {S S' T T' : St}
/-- what a waiter finds as it is served -/
theorem serve_ok {w : Nat} (V : Inv S) (hw : w < (S 0 55).toNat) (h : forWait S w ≠ -1) : S 0 46 < 200 ∧ forWait S w = memberFor S (S 56 w) (S 57 w) ∧ (0 ≤ S 56 w ∧ S 56 w < S 0 38 * S 0 39) ∧ (0 ≤ S 57 w ∧ S 57 w < S 0 60) ∧ (0 ≤ forWait S w ∧ forWait S w < S 0 38 * S 0 39) ∧ idleB (delWait S w) (S 56 w) = true ∧ idleB (delWait S w) (forWait S w) = true ∧ blockedB (delWait S w) ((S 56 w).tdiv (S 0 39)) ((forWait S w).tdiv (S 0 39)) = false := by
  have r46 := V.r46
  have wr := V.1.2.2.1 w hw
  have hb : S 0 46 ≠ 200 := fun e => h (if_pos e)
  have ef : forWait S w = memberFor S (S 56 w) (S 57 w) := if_neg hb
  have w7 := V.2.2.2.2.2.2.2.2.1 w hw
  have w8 := V.2.2.2.2.2.2.2.2.2.1
  rw [ef] at h ⊢
  obtain ⟨s0, s1⟩ := member_ok V wr.2.1 h
  obtain ⟨m1, m2, m3⟩ := memOK_iff.mp s1
  have m3 := m3 rfl
  obtain ⟨n1, n2⟩ := idle_iff.mp m2
  have E : Eqr S (delWait S w) := eqr_delW
  have row : ∀ x, x < (S 0 55).toNat - 1 → delWait S w 56 x = S 56 (shf w x) := fun x hx => delWait_row (by decide) (by decide) (by omega)
  have wt : ∀ z : Int, (∀ x, x < (S 0 55).toNat → x ≠ w → S 56 x ≠ z) → waitAt (delWait S w) z = -1 := by
    intro z hz
    refine waitAt_of (fun x hx => ?_)
    rw [delWait_55] at hx
    rw [row x (by omega)]
    refine hz _ ?_ ?_
    · unfold shf; split <;> omega
    · unfold shf; split <;> omega
  refine ⟨by omega, rfl, ⟨wr.1.1, w7.1⟩, wr.2.1, s0, ?_, ?_, ?_⟩
  · exact idle_iff.mpr ⟨by rw [E.callW]; exact w7.2, wt _ (fun x hx hne => w8 x w hx hw hne)⟩
  · exact idle_iff.mpr ⟨by rw [E.callW]; exact n1, wt _ (fun x hx _ => waitAt_none n2 hx)⟩
  · rw [E.blocked]; exact m3
theorem served_55 {w : Nat} (V : Inv S) (hw : w < (S 0 55).toNat) (h : forWait S w ≠ -1) : served S w (forWait S w) 0 55 = S 0 55 - 1 := (V.srv hw h).2.1
theorem served_r {w : Nat} (V : Inv S) (hw : w < (S 0 55).toNat) (h : forWait S w ≠ -1) : Inv (served S w (forWait S w)) := (V.srv hw h).1
theorem serve_55 : ∀ (r w : Nat) (S : St), Inv S → w + r = (S 0 55).toNat → 0 ≤ servesL r w S 0 55 ∧ servesL r w S 0 55 ≤ S 0 55 := by
  intro r
  induction r with
  | zero => intro w S V _; exact ⟨V.r55.1, Int.le_refl _⟩
  | succ r ih =>
    intro w S V h
    simp only [servesL]
    split
    · exact ih (w + 1) S V (by omega)
    · rename_i hn
      have := served_55 V (by omega) hn
      have := ih w _ (served_r V (by omega) hn) (by omega)
      omega
end SERVE
