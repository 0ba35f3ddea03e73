/-! THE MODEL'S METHODS, 16: whole texts -/
theorem lasts_in {B : Nat → Int} {n k : Nat} {a : Int × Nat} (hk : k ≤ n) (h : lastsR B n k = .inr a) : tE B n k ≤ a.2 ∧ a.2 ≤ n ∧ 0 ≤ a.1 ∧ a.1 ≤ 99 := by
  have e1 := tE_rng (B := B) hk
  unfold lastsR at h
  split at h
  · cases h1 : numR B n (tE B n k) 1 99 with
    | inl e => rw [h1] at h; cases h
    | inr v =>
      rw [h1] at h
      dsimp only at h
      have v1 := num_in h1
      have ev : v.2 = tE B n (tE B n k) := by rw [v1.2.2.1]
      have e2 := tE_rng (B := B) e1.2
      have s2 := tS_rng (B := B) e1.2
      cases h2 : semR B n v.2 with
      | inl e => rw [h2] at h; cases h
      | inr p =>
        rw [h2] at h
        cases h
        have s := sem_in h2
        rw [ev] at s
        have e3 := tE_rng (B := B) e2.2
        have s3 := tS_rng (B := B) e2.2
        dsimp only
        omega
  · cases h2 : semR B n k with
    | inl e => rw [h2] at h; cases h
    | inr p =>
      rw [h2] at h
      cases h
      have s := sem_in h2
      dsimp only
      omega
/-- a command goes on, and keeps what is to be kept -/
def CmdG (n p : Nat) (a : St × Nat) : Prop := Ok a.1 ∧ a.1 0 44 ≤ 9999 ∧ p ≤ a.2 ∧ a.2 ≤ n
theorem cmd_ok {B : Nat → Int} {n : Nat} {S : St} (V : Ok S) (ht : S 0 44 ≤ 9999) {k : Nat} (hk : k ≤ n) {a : St × Nat} (h : cmdR B n S k = .inr a) : CmdG n (tE B n k) a := by
  have I := V.1.1
  obtain ⟨⟨i38, i39, i40, i41, i42, i43, i44, i45, i46, i47, i55, i60⟩, irow, iwait, igrp⟩ := id I
  have e1 := tE_rng (B := B) hk
  obtain ⟨p, hp⟩ : ∃ p, p = tE B n k := ⟨_, rfl⟩
  rw [← hp] at e1 ⊢
  have e2 := tE_rng (B := B) e1.2
  have s2 := tS_rng (B := B) e1.2
  have e3 := tE_rng (B := B) e2.2
  have s3 := tS_rng (B := B) e2.2
  have mid : ∀ (b : Bool), midR B n S p b = .inr a → CmdG n p a := by
    intro b h
    unfold midR at h
    cases h1 : numR B n p 0 (S 0 40 - 1) with
    | inl e => rw [h1] at h; cases h
    | inr v =>
      rw [h1] at h
      dsimp only at h
      have v1 := num_in h1
      have ev : v.2 = tE B n p := by rw [v1.2.2.1]
      split at h
      · cases h
      · cases h2 : semR B n v.2 with
        | inl e => rw [h2] at h; cases h
        | inr p2 =>
          rw [h2] at h
          cases h
          have s := (sem_in h2).1
          rw [ev] at s
          cases b with
          | true => have c := V.cts (m := v.1) (by omega); exact ⟨c.1, by show (cuts S v.1).2 0 44 ≤ _; rw [c.2.1]; exact ht, by dsimp only; omega, by dsimp only; omega⟩
          | false => have c := V.mnd (m := v.1) (by omega); exact ⟨c.1, by show mends S v.1 0 44 ≤ _; rw [c.2]; exact ht, by dsimp only; omega, by dsimp only; omega⟩
  have rule : ∀ (b : Bool), ruleR B n S p b = .inr a → CmdG n p a := by
    intro b h
    unfold ruleR at h
    split at h
    · cases h
    · rename_i hr
      cases h2 : semR B n (tE B n p) with
      | inl e => rw [h2] at h; cases h
      | inr p2 =>
        rw [h2] at h
        cases h
        have s := (sem_in h2).1
        have rf : b = false → 0 ≤ ruleN B n p b ∧ ruleN B n p b ≤ 2 := by
          intro hb
          subst hb
          revert hr
          unfold ruleN
          rw [if_neg (by decide)]
          split <;> (try split) <;> (try split) <;> (intro hr; omega)
        have rt : b = true → 0 ≤ ruleN B n p b ∧ ruleN B n p b ≤ 1 := by
          intro hb
          subst hb
          revert hr
          unfold ruleN
          rw [if_pos rfl]
          split <;> (try split) <;> (intro hr; omega)
        cases b with
        | true =>
          have c := (V.mode (v := ruleN B n p true) (rt rfl)).srvs
          exact ⟨c.1, by show serves (up2 S 0 42 _) 0 44 ≤ _; rw [c.2, up2_ne (Or.inr (by decide))]; exact ht, by dsimp only; omega, by dsimp only; omega⟩
        | false =>
          have e : up2 S 0 43 (ruleN B n p false) 0 44 = S 0 44 := up2_ne (Or.inr (by decide))
          exact ⟨V.hunt (rf rfl), by show up2 S 0 43 (ruleN B n p false) 0 44 ≤ 9999; omega, by dsimp only; omega, by dsimp only; omega⟩
  unfold cmdR at h
  rw [← hp] at h
  split at h
  · unfold callR at h
    cases h1 : numR B n p 0 (subN S) with
    | inl e => rw [h1] at h; cases h
    | inr v =>
      rw [h1] at h
      dsimp only at h
      have v1 := num_in h1
      have ev : v.2 = tE B n p := by rw [v1.2.2.1]
      cases h2 : numR B n v.2 0 (subN S) with
      | inl e => rw [h2] at h; cases h
      | inr w =>
        rw [h2] at h
        dsimp only at h
        have w1 := num_in h2
        have ew : w.2 = tE B n (tE B n p) := by rw [w1.2.2.1, ev]
        split at h
        · cases h
        · rename_i hne
          cases h3 : lastsR B n w.2 with
          | inl e => rw [h3] at h; cases h
          | inr l =>
            rw [h3] at h
            cases h
            have li := lasts_in (by rw [ew]; exact e3.2) h3
            rw [ew] at li
            have e4 := tE_rng (B := B) e3.2
            have s4 := tS_rng (B := B) e3.2
            have c := V.cup (fr := v.1) (to := w.1) (last := l.1) (sub_in ⟨v1.1, v1.2.1⟩) (sub_in ⟨w1.1, w1.2.1⟩) hne ⟨li.2.2.1, li.2.2.2⟩
            exact ⟨c.1, by show (callsUp S v.1 w.1 l.1).2 0 44 ≤ _; rw [c.2]; exact ht, by dsimp only; omega, by dsimp only; omega⟩
  · split at h
    · unfold dialR at h
      cases h1 : numR B n p 0 (subN S) with
      | inl e => rw [h1] at h; cases h
      | inr v =>
        rw [h1] at h
        dsimp only at h
        have v1 := num_in h1
        have ev : v.2 = tE B n p := by rw [v1.2.2.1]
        split at h
        · cases h
        · split at h
          · cases h
          · rename_i hg
            cases h3 : lastsR B n (tE B n v.2) with
            | inl e => rw [h3] at h; cases h
            | inr l =>
              rw [h3] at h
              cases h
              have li := lasts_in (by rw [ev]; exact e3.2) h3
              rw [ev] at li
              have e4 := tE_rng (B := B) e3.2
              have s4 := tS_rng (B := B) e3.2
              have gr : -1 ≤ grpOf B n S v.2 ∧ grpOf B n S v.2 < S 0 60 := by
                have := fnd_rng (p := grpEq B n S v.2) (S 0 60).toNat 0
                unfold grpOf
                omega
              have c := V.dls (fr := v.1) (g := grpOf B n S v.2) (last := l.1) (sub_in ⟨v1.1, v1.2.1⟩) (by omega) ⟨li.2.2.1, li.2.2.2⟩
              exact ⟨c.1, by show (dials S v.1 _ l.1).2 0 44 ≤ _; rw [c.2]; exact ht, by dsimp only; omega, by dsimp only; omega⟩
    · split at h
      · unfold hangR at h
        cases h1 : numR B n p 0 (subN S) with
        | inl e => rw [h1] at h; cases h
        | inr v =>
          rw [h1] at h
          dsimp only at h
          have v1 := num_in h1
          have ev : v.2 = tE B n p := by rw [v1.2.2.1]
          split at h
          · cases h
          · rename_i hi
            cases h2 : semR B n v.2 with
            | inl e => rw [h2] at h; cases h
            | inr p2 =>
              rw [h2] at h
              cases h
              have s := (sem_in h2).1
              rw [ev] at s
              have c := V.hng (s := v.1) (by simpa using hi)
              exact ⟨c.1, by show (hangs S v.1).2 0 44 ≤ _; rw [c.2]; exact ht, by dsimp only; omega, by dsimp only; omega⟩
      · split at h
        · unfold tickR at h
          cases h1 : numR B n p 1 (if 9999 - S 0 44 < 100 then 9999 - S 0 44 else 100) with
          | inl e => rw [h1] at h; cases h
          | inr v =>
            rw [h1] at h
            dsimp only at h
            have v1 := num_in h1
            have ev : v.2 = tE B n p := by rw [v1.2.2.1]
            have hv : v.1 ≤ 100 ∧ S 0 44 + v.1 ≤ 9999 := by have := v1.2.1; split at this <;> omega
            cases h2 : semR B n v.2 with
            | inl e => rw [h2] at h; cases h
            | inr p2 =>
              rw [h2] at h
              cases h
              have s := (sem_in h2).1
              rw [ev] at s
              have c := Ok.ticks v.1.toNat 0 S V (by omega)
              exact ⟨c.1, by show (ticksL v.1.toNat 0 S).2 0 44 ≤ _; rw [c.2.1]; omega, by dsimp only; omega, by dsimp only; omega⟩
        · split at h
          · exact mid true h
          · split at h
            · exact mid false h
            · split at h
              · exact rule true h
              · split at h
                · exact rule false h
                · split at h
                  · unfold packR at h
                    cases h2 : semR B n p with
                    | inl e => rw [h2] at h; cases h
                    | inr p2 =>
                      rw [h2] at h
                      cases h
                      have s := (sem_in h2).1
                      have c := V.pks.1.srvs
                      exact ⟨c.1, by show serves (packs S).2 0 44 ≤ _; rw [c.2, V.pks.2.1]; exact ht, by dsimp only; omega, by dsimp only; omega⟩
                  · cases h
theorem cmds_ok {B : Nat → Int} {n : Nat} : ∀ (r : Nat) (S : St) (k : Nat) (e : Int) (a : Int × St), Ok S → S 0 44 ≤ 9999 → k ≤ n → cmdsR B n r S k e = .inr a → Ok a.2 ∧ a.2 0 44 ≤ 9999 := by
  intro r
  induction r with
  | zero => intro S k e a V ht hk h; cases h; exact ⟨V, ht⟩
  | succ r ih =>
    intro S k e a V ht hk h
    simp only [cmdsR] at h
    split at h
    · cases h; exact ⟨V, ht⟩
    · cases h1 : cmdR B n S k with
      | inl x => rw [h1] at h; cases h
      | inr b =>
        rw [h1] at h
        obtain ⟨c1, c2, c3, c4⟩ := cmd_ok V ht hk h1
        exact ih b.1 b.2 (e + 1) a c1 c2 c4 h
theorem mc_readsCommands {Z : ZT} {d : Nat} {G : GH} {Q : TR → GH → Prop} {m : Nat} {S X : St} {B : Nat → Int} {n : Nat} {k : Nat} (hM : MOK G m) (V : Ok S) (ht : S 0 44 ≤ 9999) (R : RX B n X) (hk : k ≤ n) (T : Tk B n k X) (qe : ∀ e S' X', cmdsR B n 601 S k 0 = .inl e → Xe X X' e → Q (.inl (some (tI (-1)))) (pM G m S' X')) (qg : ∀ a, cmdsR B n 601 S k 0 = .inr a → 0 ≤ a.1 ∧ a.1 ≤ 601 → ∀ X', Xd X X' → Q (.inl (some (tI a.1))) (pM G m a.2 X')) : TC Z (d + 10) mi_X5_readsCommands [tR (some m)] (pM G m S X) Q := by
  have hn6 := R.2.2.1
  have loop : ∀ (r : Nat) (k : Nat) (e : Int) (S1 X1 : St), Ok S1 → S1 0 44 ≤ 9999 → k ≤ n → n - k < r → Xd X X1 → Tk B n k X1 → 0 ≤ e ∧ e + r ≤ 601 →
      (∀ x S' X', cmdsR B n r S1 k e = .inl x → Xe X X' x → Q (.inl (some (tI (-1)))) (pM G m S' X')) → (∀ a, cmdsR B n r S1 k e = .inr a → 0 ≤ a.1 ∧ a.1 ≤ 601 → ∀ X', Xd X X' → Q (.inl (some (tI a.1))) (pM G m a.2 X')) →
      TW Z mi_X5_readsCommands (d + 10) 2 [some (tR (some m)), some (tI e)] [] (pM G m S1 X1) Q := by
    intro r
    induction r with
    | zero => intro k e S1 X1 V1 ht1 hk hf; omega
    | succ r ih =>
      intro k e S1 X1 V1 ht1 hk hf hX T1 he qe qg
      have kr := tK_rng (B := B) (n := n) (k := k)
      have t79 := T1.2.2.1
      simp only [cmdsR] at qe qg
      refine r_X5_readsCommands_2 hM ⟨by omega, fun h => ?_, fun h => ?_⟩
      · rw [if_pos (t79.symm.trans h)] at qg
        exact qg _ rfl ⟨he.1, by dsimp only; omega⟩ X1 hX
      · have hK : tK B n k ≠ 0 := fun z => h (t79.trans z)
        rw [if_neg hK] at qe qg
        have lt := tE_lt (B := B) hk hK
        have sr := tS_rng (B := B) hk
        refine mc_command hM V1 ht1 (R.d hX) hk T1 (fun x X2 hx hX2 => r_X5_readsCommands_13 hM ⟨by decide, fun h => absurd rfl h, fun _ => qe x S1 X2 (by rw [hx]) (hX.e hX2)⟩) (fun a ha X2 hX2 h7 => r_X5_readsCommands_13 hM ⟨by decide, fun _ => ?_, fun h => absurd h (by decide)⟩)
        obtain ⟨c1, c2, c3, c4⟩ := cmd_ok V1 ht1 hk ha
        rw [ha] at qe qg
        dsimp only at qe qg
        exact mc_token hM (R.d (hX.trans hX2)) h7 c4 (fun X3 hX3 hT3 => r_X5_readsCommands_25 hM (ih a.2 (e + 1) a.1 X3 c1 c2 c4 (by omega) ((hX.trans hX2).trans hX3) hT3 (by omega) qe qg))
  exact c_X5_readsCommands hM (loop 601 k 0 S X V ht hk (by omega) Xd.rf T (by decide) qe qg)
/-- a new exchange -/
theorem clear_0 {S : St} {s l mm : Int} : clearS S s l mm 0 38 = s ∧ clearS S s l mm 0 39 = l ∧ clearS S s l mm 0 40 = mm ∧ clearS S s l mm 0 41 = 0 ∧ clearS S s l mm 0 42 = 1 ∧ clearS S s l mm 0 43 = 0 ∧ clearS S s l mm 0 44 = 0 ∧ clearS S s l mm 0 45 = mm - 1 ∧ clearS S s l mm 0 46 = 0 ∧ clearS S s l mm 0 47 = 0 ∧ clearS S s l mm 0 55 = 0 ∧ clearS S s l mm 0 60 = 0 := by
  refine ⟨?_, ?_, ?_, ?_, ?_, ?_, ?_, ?_, ?_, ?_, ?_, ?_⟩ <;> simp [clearS]
theorem Ok.clr {S : St} {s l mm : Int} (hs : 1 ≤ s ∧ s ≤ 6) (hl : 1 ≤ l ∧ l ≤ 6) (hm : 1 ≤ mm ∧ mm ≤ 9) : Ok (clearS S s l mm) := by
  obtain ⟨c38, c39, c40, c41, c42, c43, c44, c45, c46, c47, c55, c60⟩ := clear_0 (S := S) (s := s) (l := l) (mm := mm)
  have n47 : ∀ c : Nat, ¬ c < (clearS S s l mm 0 47).toNat := fun c => by rw [c47]; exact Nat.not_lt_zero _
  have n55 : ∀ c : Nat, ¬ c < (clearS S s l mm 0 55).toNat := fun c => by rw [c55]; exact Nat.not_lt_zero _
  have n60 : ∀ c : Nat, ¬ c < (clearS S s l mm 0 60).toNat := fun c => by rw [c60]; exact Nat.not_lt_zero _
  refine ⟨⟨⟨?_, fun c h => absurd h (n47 c), fun c h => absurd h (n55 c), fun c h => absurd h (n60 c)⟩, fun c _ h => absurd h (n47 c), fun c h => absurd h (n47 c), fun c c' _ h => absurd h (n47 c'), fun c h => absurd h (n47 c), fun c h => absurd h (n47 c), fun c _ h => absurd h (n47 c), fun c _ h => absurd h (n47 c), fun c h => absurd h (n55 c), fun c _ h => absurd h (n55 c), ?_, fun c _ h => absurd h (n60 c), fun _ c _ h => absurd h (n60 c)⟩, fun c h => absurd h (n47 c), ?_⟩
  · rw [c38, c39, c40, c41, c42, c43, c44, c45, c46, c47, c55, c60]; omega
  · rw [c45, c40]; omega
  · unfold Gap
    rw [c46, c47]
    simp [clearS]
theorem mc_clearAll {Z : ZT} {d : Nat} {G : GH} {Q : TR → GH → Prop} {m : Nat} {S X : St} {B : Nat → Int} {n : Nat} {s l mm : Int} (hM : MOK G m) (q : Q (.inl none) (pM G m (clearS S s l mm) X)) : TC Z (d + 1) mi_X5_clearAll [tR (some m), tI s, tI l, tI mm] (pM G m S X) Q := by
  have loop : ∀ (r k : Nat) (S1 : St), k + r = 13 → (∀ f c, (f ≠ 65 ∨ c < k ∨ 13 ≤ c) → S1 f c = clearS S s l mm f c) → TW Z mi_X5_clearAll (d + 1) 65 [some (tR (some m)), some (tI s), some (tI l), some (tI mm), some (tI (k : Int))] [] (pM G m S1 X) Q := by
    intro r
    induction r with
    | zero =>
      intro k S1 hk he
      have e : S1 = clearS S s l mm := by funext f c; exact he f c (by omega)
      rw [e]
      exact r_X5_clearAll_65 hM ⟨by omega, fun _ => q, fun h => by omega⟩
    | succ r ih =>
      intro k S1 hk he
      refine r_X5_clearAll_65 hM ⟨by omega, fun h => by omega, fun _ => ⟨by omega, ?_⟩⟩
      rw [Int.toNat_natCast]
      refine ih (k + 1) _ (by omega) (fun f c hf => ?_)
      by_cases e : f = 65 ∧ c = k
      · obtain ⟨rfl, rfl⟩ := e
        rw [up2_at]
        exact (if_pos ⟨rfl, by omega⟩).symm
      · rw [up2_ne (by omega)]
        exact he f c (by omega)
  refine c_X5_clearAll hM (r_X5_clearAll_35 hM (loop 13 0 _ rfl (fun f c hf => ?_)))
  by_cases h0 : f = 0
  · subst h0
    have hc : c = 38 ∨ c = 39 ∨ c = 40 ∨ c = 41 ∨ c = 42 ∨ c = 43 ∨ c = 44 ∨ c = 45 ∨ c = 46 ∨ c = 47 ∨ c = 55 ∨ c = 60 ∨ (c ≠ 38 ∧ c ≠ 39 ∧ c ≠ 40 ∧ c ≠ 41 ∧ c ≠ 42 ∧ c ≠ 43 ∧ c ≠ 44 ∧ c ≠ 45 ∧ c ≠ 46 ∧ c ≠ 47 ∧ c ≠ 55 ∧ c ≠ 60) := by omega
    rcases hc with rfl | rfl | rfl | rfl | rfl | rfl | rfl | rfl | rfl | rfl | rfl | rfl | ⟨g1, g2, g3, g4, g5, g6, g7, g8, g9, g10, g11, g12⟩
    iterate 12 rfl
    rw [up2_ne (Or.inr g12), up2_ne (Or.inr g11), up2_ne (Or.inr g10), up2_ne (Or.inr g9), up2_ne (Or.inr g8), up2_ne (Or.inr g7), up2_ne (Or.inr g6), up2_ne (Or.inr g5), up2_ne (Or.inr g4), up2_ne (Or.inr g3), up2_ne (Or.inr g2), up2_ne (Or.inr g1)]
    unfold clearS
    rw [if_neg (by omega), if_pos rfl, if_neg g1, if_neg g2, if_neg g3, if_neg g5, if_neg g8, if_neg (by omega)]
  · rw [up2_ne (Or.inl h0), up2_ne (Or.inl h0), up2_ne (Or.inl h0), up2_ne (Or.inl h0), up2_ne (Or.inl h0), up2_ne (Or.inl h0), up2_ne (Or.inl h0), up2_ne (Or.inl h0), up2_ne (Or.inl h0), up2_ne (Or.inl h0), up2_ne (Or.inl h0), up2_ne (Or.inl h0)]
    unfold clearS
    rw [if_neg (by omega), if_neg h0]
