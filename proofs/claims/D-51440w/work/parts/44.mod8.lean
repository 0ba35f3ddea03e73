/-! THE MODEL'S METHODS, 8: changes -/
def slotN (X : St) (i : Nat) : Nat := ((X 0 67).toNat + i) % 8
/-- the vector that an image holds -/
def imgS (X : St) (k : Nat) : St := fun f c => X 66 (320 * k + iOff f c)
def stk (X : St) (i : Nat) : St := imgS X (slotN X i)
def UndoR (X : St) : Prop := (0 ≤ X 0 67 ∧ X 0 67 < 8) ∧ (0 ≤ X 0 68 ∧ X 0 68 ≤ 8)
def pushN (u : Nat) : Nat := if u < 8 then u + 1 else 8
def pushF (u : Nat) (bs : Nat → St) (S : St) (i : Nat) : St := if u < 8 then (if i < u then bs i else S) else (if i < 7 then bs (i + 1) else S)
/-- all else is as it was: not the images of undo, not scratch -/
def Xo (X X' : St) : Prop := ∀ f c : Nat, f ≠ 70 → f ≠ 71 → f ≠ 76 → (f ≠ 66 ∨ (2560 ≤ c ∧ c < 3520)) → (f ≠ 0 ∨ (c ≠ 31 ∧ c ≠ 67 ∧ c ≠ 68 ∧ (c < 72 ∨ 75 < c) ∧ c ≠ 83)) → X' f c = X f c
def PushC (S X X' : St) (code : Int) : Prop := X' 0 31 = code ∧ UndoR X' ∧ (X' 0 68).toNat = pushN (X 0 68).toNat ∧ (∀ i, i < (X' 0 68).toNat → Sg (pushF (X 0 68).toNat (stk X) S i) (stk X' i)) ∧ Xo X X'
theorem PushC.w {S X X' X2 : St} {code : Int} (h : PushC S X X' code) (k : Xw X' X2) : PushC S X X2 code := by
  obtain ⟨h1, h2, h3, h4, h5⟩ := h
  have e67 : X2 0 67 = X' 0 67 := k 0 67 (by decide) (by decide) (by decide) (by decide)
  have e68 : X2 0 68 = X' 0 68 := k 0 68 (by decide) (by decide) (by decide) (by decide)
  refine ⟨(k 0 31 (by decide) (by decide) (by decide) (by decide)).trans h1, ?_, ?_, ?_, fun f c a1 a2 a3 a4 a5 => (k f c a1 a2 a3 (by omega)).trans (h5 f c a1 a2 a3 a4 a5)⟩
  · unfold UndoR; rw [e67, e68]; exact h2
  · rw [e68]; exact h3
  · intro i hi f c hf
    rw [e68] at hi
    have := h4 i hi f c hf
    rw [← this]
    unfold stk imgS slotN
    rw [e67]
    exact k 66 _ (by decide) (by decide) (by decide) (Or.inl (by decide))
theorem PushC.s {S X X' X2 : St} {code : Int} (h : PushC S X X' code) (k : Xs X' X2) : PushC S X X2 code := h.w k.w
/-- the code is set first -/
theorem PushC.code {S X X' : St} {j code : Int} (h : PushC S (up2 X 0 31 j) X' code) : PushC S X X' code := by
  obtain ⟨h1, h2, h3, h4, h5⟩ := h
  exact ⟨h1, h2, h3, h4, fun f c a1 a2 a3 a4 a5 => (h5 f c a1 a2 a3 a4 a5).trans (up2_ne (by omega))⟩
/-- an image is put on the stack: X1 has the new numbers, X' the new image too -/
theorem push_ok {S X X1 X' : St} (U : UndoR X) (k : Nat) (hk : k = ((X 0 67).toNat + (X 0 68).toNat) % 8)
    (h67 : X' 0 67 = if X 0 68 = 8 then (X 0 67 + 1).tmod 8 else X 0 67) (h68 : X' 0 68 = if X 0 68 = 8 then 8 else X 0 68 + 1)
    (hin : ∀ f c, iOff f c < 261 → X' 66 (320 * k + iOff f c) = S f c) (hoff : ∀ c, c < 320 * k ∨ 320 * k + 320 ≤ c → X' 66 c = X 66 c)
    (ho : ∀ f c : Nat, f ≠ 66 → (f ≠ 0 ∨ (c ≠ 67 ∧ c ≠ 68 ∧ c ≠ 83)) → X' f c = X f c) : PushC S X X' (X 0 31) := by
  obtain ⟨⟨u1, u2⟩, u3, u4⟩ := id U
  have hk8 : k < 8 := by omega
  have sl : ∀ j, j < 8 → j ≠ k → ∀ f c, iOff f c < 261 → X' 66 (320 * j + iOff f c) = X 66 (320 * j + iOff f c) := fun j hj hne f c hf => hoff _ (by omega)
  refine ⟨ho 0 31 (by decide) (by decide), ?_, ?_, ?_, fun f c a1 a2 a3 a4 a5 => ?_⟩
  · unfold UndoR
    rw [h67, h68]
    by_cases e : X 0 68 = 8
    · rw [if_pos e, if_pos e]
      exact ⟨⟨Int.tmod_nonneg _ (by omega), Int.tmod_lt_of_pos _ (by decide)⟩, by omega⟩
    · rw [if_neg e, if_neg e]; omega
  · rw [h68]
    unfold pushN
    by_cases e : X 0 68 = 8
    · rw [if_pos e, if_neg (by omega)]; rfl
    · rw [if_neg e, if_pos (by omega)]; omega
  · intro i hi f c hf
    rw [h68] at hi
    unfold stk imgS slotN pushF
    rw [h67]
    by_cases e : X 0 68 = 8
    · rw [if_pos e] at hi ⊢
      rw [if_neg (by omega)]
      have et : ((X 0 67 + 1).tmod 8).toNat = ((X 0 67).toNat + 1) % 8 := by
        rw [Int.tmod_eq_emod_of_nonneg (by omega)]
        omega
      rw [et]
      by_cases h7 : i < 7
      · rw [if_pos h7, sl ((((X 0 67).toNat + 1) % 8 + i) % 8) (by omega) (by omega) f c hf]
        show X 66 (320 * _ + iOff f c) = X 66 (320 * (((X 0 67).toNat + (i + 1)) % 8) + iOff f c)
        congr 1
        omega
      · rw [if_neg h7, show (((X 0 67).toNat + 1) % 8 + i) % 8 = k by omega]
        exact hin f c hf
    · rw [if_neg e] at hi ⊢
      rw [if_pos (by omega)]
      by_cases h7 : i < (X 0 68).toNat
      · rw [if_pos h7, sl (((X 0 67).toNat + i) % 8) (by omega) (by omega) f c hf]
      · rw [if_neg h7, show ((X 0 67).toNat + i) % 8 = k by omega]
        exact hin f c hf
  · by_cases e : f = 66
    · subst e
      exact hoff c (by omega)
    · exact ho f c e (by omega)
theorem tmod8 {X : St} (U : UndoR X) (h : ¬ X 0 68 = 8) : (X 0 67 + (X 0 68 + 1) - 1).tmod 8 = ((((X 0 67).toNat + (X 0 68).toNat) % 8 : Nat) : Int) := by
  obtain ⟨⟨u1, u2⟩, u3, u4⟩ := U
  rw [Int.tmod_eq_emod_of_nonneg (by omega)]
  omega
theorem tmod8' {X : St} (U : UndoR X) (h : X 0 68 = 8) : ((X 0 67 + 1).tmod 8 + (X 0 68 - 1 + 1) - 1).tmod 8 = ((((X 0 67).toNat + (X 0 68).toNat) % 8 : Nat) : Int) ∧ 0 ≤ (X 0 67 + 1).tmod 8 ∧ (X 0 67 + 1).tmod 8 < 8 := by
  obtain ⟨⟨u1, u2⟩, u3, u4⟩ := U
  rw [Int.tmod_eq_emod_of_nonneg (show 0 ≤ X 0 67 + 1 by omega)]
  have : 0 ≤ (X 0 67 + 1) % 8 + (X 0 68 - 1 + 1) - 1 := by omega
  rw [Int.tmod_eq_emod_of_nonneg this]
  omega
/-- the next image's number; the numbers of the ring are new -/
theorem mc_nextImage {Z : ZT} {d : Nat} {G : GH} {Q : TR → GH → Prop} {m : Nat} {S X : St} (hM : MOK G m) (U : UndoR X) (q : ∀ X1 : St, X1 0 67 = (if X 0 68 = 8 then (X 0 67 + 1).tmod 8 else X 0 67) → X1 0 68 = (if X 0 68 = 8 then 8 else X 0 68 + 1) → (∀ f c, (f ≠ 0 ∨ (c ≠ 67 ∧ c ≠ 68)) → X1 f c = X f c) → Q (.inl (some (tI ((((X 0 67).toNat + (X 0 68).toNat) % 8 : Nat) : Int)))) (pM G m S X1)) : TC Z (d + 1) mi_X5_nextImage [tR (some m)] (pM G m S X) Q := by
  obtain ⟨⟨u1, u2⟩, u3, u4⟩ := id U
  refine c_X5_nextImage hM ⟨by omega, fun h => ?_, fun h => ?_⟩
  · refine ⟨by omega, ?_⟩
    rw [tmod8 U h]
    rw [if_neg h, if_neg h] at q
    exact q _ (up2_ne (Or.inr (by decide))) up2_at (fun f c hf => up2_ne (by omega))
  · obtain ⟨t1, t2, t3⟩ := tmod8' U h
    refine ⟨by omega, by omega, ?_⟩
    rw [t1]
    rw [if_pos h, if_pos h] at q
    refine q _ ?_ ?_ (fun f c hf => ?_)
    · rw [up2_ne (Or.inr (by decide)), up2_ne (Or.inr (by decide)), up2_at]
    · rw [up2_at, h]; rfl
    · rw [up2_ne (by omega), up2_ne (by omega), up2_ne (by omega)]
theorem mc_noteChange {Z : ZT} {d : Nat} {G : GH} {Q : TR → GH → Prop} {m : Nat} {S X : St} (hM : MOK G m) (U : UndoR X) (q : ∀ X', PushC S X X' (X 0 31) → Q (.inl none) (pM G m S X')) : TC Z (d + 3) mi_X5_noteChange [tR (some m)] (pM G m S X) Q := by
  refine c_X5_noteChange hM (mc_nextImage hM U (fun X1 h67 h68 ho => r_X5_noteChange_5 hM ?_))
  have hk : ((X 0 67).toNat + (X 0 68).toNat) % 8 < 8 := Nat.mod_lt _ (by decide)
  generalize hkk : ((X 0 67).toNat + (X 0 68).toNat) % 8 = k at *
  refine mc_keepImage hM (by omega) (r_X5_noteChange_8 hM (q _ ?_))
  refine push_ok (X1 := X1) U k hkk.symm ?_ ?_ (fun f c hf => ?_) (fun c hc => ?_) (fun f c h1 h2 => ?_)
  · rw [up2_ne (Or.inr (by decide)), imgP_off (Or.inl (by decide)) (by decide), h67]
  · rw [up2_ne (Or.inr (by decide)), imgP_off (Or.inl (by decide)) (by decide), h68]
  · rw [up2_ne (Or.inl (by decide)), imgP_in hf]
  · rw [up2_ne (Or.inl (by decide)), imgP_off (Or.inr hc) (by decide), ho _ _ (Or.inl (by decide))]
  · rw [up2_ne (by omega), imgP_off (Or.inl h1) (by decide), ho _ _ (by omega)]
def copyP (k n : Nat) (X : St) : St := fun f c => if f = 66 ∧ 320 * k ≤ c ∧ c < 320 * k + n then X 66 (3200 + (c - 320 * k)) else X f c
theorem mc_noteTextChange {Z : ZT} {d : Nat} {G : GH} {Q : TR → GH → Prop} {m : Nat} {S X : St} (hM : MOK G m) (U : UndoR X) (q : ∀ X', PushC (imgS X 10) X X' (X 0 31) → Q (.inl none) (pM G m S X')) : TC Z (d + 3) mi_X5_noteTextChange [tR (some m)] (pM G m S X) Q := by
  refine c_X5_noteTextChange hM (mc_nextImage hM U (fun X1 h67 h68 ho => r_X5_noteTextChange_4 hM ?_))
  have hk : ((X 0 67).toNat + (X 0 68).toNat) % 8 < 8 := Nat.mod_lt _ (by decide)
  generalize hkk : ((X 0 67).toNat + (X 0 68).toNat) % 8 = k at *
  have loop : ∀ r n : Nat, n + r = 320 → TW Z mi_X5_noteTextChange (d + 3) 11 [some (tR (some m)), some (tI ((k : Int) * 320)), some (tI (n : Int))] [] (pM G m S (copyP k n X1)) Q := by
    intro r
    induction r with
    | zero =>
      intro n hn
      have hn : n = 320 := hn
      subst hn
      refine r_X5_noteTextChange_11 hM ⟨by decide, fun _ => q _ ?_, fun h => by omega⟩
      refine push_ok (X1 := X1) U k hkk.symm ?_ ?_ (fun f c hf => ?_) (fun c hc => ?_) (fun f c h1 h2 => ?_)
      · unfold copyP; rw [if_neg (by omega), h67]
      · unfold copyP; rw [if_neg (by omega), h68]
      · unfold copyP imgS
        rw [if_pos (by omega), ho _ _ (Or.inl (by decide))]
        congr 1
        omega
      · unfold copyP; rw [if_neg (by omega), ho _ _ (Or.inl (by decide))]
      · unfold copyP; rw [if_neg (by omega), ho _ _ (by omega)]
    | succ r ih =>
      intro n hn
      refine r_X5_noteTextChange_11 hM ⟨by omega, fun h => by omega, fun _ => ⟨by omega, by omega, ?_⟩⟩
      have e1 : ((3200 : Int) + (n : Int)).toNat = 3200 + n := by omega
      have e2 : ((k : Int) * 320 + (n : Int)).toNat = 320 * k + n := by omega
      rw [e1, e2]
      have e : up2 (copyP k n X1) 66 (320 * k + n) (copyP k n X1 66 (3200 + n)) = copyP k (n + 1) X1 := by
        have e3 : copyP k n X1 66 (3200 + n) = X1 66 (3200 + n) := if_neg (by omega)
        rw [e3]
        funext f c
        by_cases h : f = 66 ∧ c = 320 * k + n
        · obtain ⟨rfl, rfl⟩ := h
          rw [up2_at]
          unfold copyP
          rw [if_pos (by omega), Nat.add_sub_cancel_left]
        · rw [up2_ne (by omega)]
          unfold copyP
          by_cases q : f = 66 ∧ 320 * k ≤ c ∧ c < 320 * k + n
          · rw [if_pos q, if_pos (by omega)]
          · rw [if_neg q, if_neg (by omega)]
      rw [e]
      exact ih (n + 1) (by omega)
  have := loop 320 0 (by omega)
  have e0 : copyP k 0 X1 = X1 := by funext f c; exact if_neg (fun q => by omega)
  rw [e0] at this
  exact this
/-- how the changes are refused -/
def callC (S : St) (a b l : Int) : Int := if subOK S a ∧ subOK S b then (if a ≠ b ∧ 0 ≤ l ∧ l ≤ 99 then 0 else 2) else 1
def dialC (S : St) (a g l : Int) : Int := if subOK S a ∧ grpOK S g then (if 0 ≤ l ∧ l ≤ 99 then 0 else 2) else 1
def hangC (S : St) (s : Int) : Int := if subOK S s then (if idleB S s = true then 2 else 0) else 1
def tickC (S : St) (n : Int) : Int := if 1 ≤ n ∧ n ≤ 100 then (if S 0 44 + n ≤ 9999 then 0 else 2) else 1
def cutC (S : St) (k : Int) : Int := if midOK S k then (if isCutB S k = true then 2 else 0) else 1
def mendC (S : St) (k : Int) : Int := if midOK S k then (if isCutB S k = true then 0 else 2) else 1
def modeC (v : Int) : Int := if 0 ≤ v ∧ v ≤ 1 then 0 else 1
def huntC (v : Int) : Int := if 0 ≤ v ∧ v ≤ 2 then 0 else 1
/-- a refused change; a change -/
def QR (G : GH) (m : Nat) (S X : St) (code : Int) (Q : TR → GH → Prop) : Prop := ∀ X' : St, Xp X X' code → Q (.inl (some (tI 0))) (pM G m S X')
def QP (G : GH) (m : Nat) (S X : St) (r : Int × St) (Q : TR → GH → Prop) : Prop := ∀ X' : St, PushC S X X' 0 → Q (.inl (some (tI r.1))) (pM G m r.2 X')
theorem note0 {Z : ZT} {d : Nat} {G : GH} {Q : TR → GH → Prop} {m : Nat} {S X : St} (hM : MOK G m) (U : UndoR X) (q : ∀ X', PushC S X X' 0 → Q (.inl none) (pM G m S X')) : TC Z (d + 3) mi_X5_noteChange [tR (some m)] (pM G m S (up2 X 0 31 0)) Q :=
  mc_noteChange hM (X := up2 X 0 31 0) U (fun X' h => q X' (PushC.code (by rw [up2_at] at h; exact h)))
theorem mp_call {Z : ZT} {d : Nat} {G : GH} {Q : TR → GH → Prop} {m : Nat} {S X : St} {a b l : Int} (hM : MOK G m) (V : Inv S) (U : UndoR X) (ha : inR a) (hb : inR b) (hl : inR l) (q1 : ∀ c, callC S a b l = c → c ≠ 0 → QR G m S X c Q) (q0 : callC S a b l = 0 → QP G m S X (callsUp S a b l) Q) : TC Z (d + 9) mi_X5_call [tR (some m), tI a, tI b, tI l] (pM G m S X) Q := by
  have I := V.1
  have s36 := sub36 I
  unfold callC at q1 q0
  refine c_X5_call hM (mc_noSubscriber hM I ha (r_X5_call_10 hM ?_))
  by_cases h1 : subOK S a
  · rw [decide_eq_true h1]
    refine ⟨by decide, fun h => absurd rfl h, fun _ => mc_noSubscriber hM I hb (r_X5_call_18 hM ?_)⟩
    by_cases h2 : subOK S b
    · rw [decide_eq_true h2]
      rw [if_pos ⟨h1, h2⟩] at q1 q0
      unfold subOK at h1 h2
      have ref : ¬ (a ≠ b ∧ 0 ≤ l ∧ l ≤ 99) → TC Z (d + 8) mi_X5_refuse [tR (some m), tI 2] (pM G m S (up2 X 0 31 0)) (KQ Z mi_X5_call (d + 9) 44 47 [some (tR (some m)), some (tI a), some (tI b), some (tI l)] [] Q) := fun hn => by
        rw [if_neg hn] at q1
        exact mc_refuse hM (r_X5_call_47 hM (q1 2 rfl (by decide) _ Xp.b))
      refine ⟨by decide, fun _ => ⟨ha, hb, fun h => ref (by omega), fun h => ⟨hl, fun h3 => ref (by omega), fun h3 => ⟨fun h4 => ?_, fun h4 => ref (by omega)⟩⟩⟩, fun h => absurd rfl h⟩
      rw [if_pos ⟨h, by omega, h4⟩] at q0
      exact note0 hM U (fun X1 hX1 => r_X5_call_52 hM (mc_callsUp hM V (by omega) (by omega) (fun X2 hX2 => r_X5_call_59 hM (q0 rfl X2 (hX1.s hX2)))))
    · rw [decide_eq_false h2]
      rw [if_neg (fun z => h2 z.2)] at q1
      exact ⟨by decide, fun h => absurd h (by decide), fun _ => mc_refuse hM (r_X5_call_26 hM (q1 1 rfl (by decide) _ Xp.b))⟩
  · rw [decide_eq_false h1]
    rw [if_neg (fun z => h1 z.1)] at q1
    exact ⟨by decide, fun _ => mc_refuse hM (r_X5_call_26 hM (q1 1 rfl (by decide) _ Xp.b)), fun h => absurd h (by decide)⟩
theorem mp_dial {Z : ZT} {d : Nat} {G : GH} {Q : TR → GH → Prop} {m : Nat} {S X : St} {a g l : Int} (hM : MOK G m) (V : Inv S) (U : UndoR X) (ha : inR a) (hb : inR g) (hl : inR l) (q1 : ∀ c, dialC S a g l = c → c ≠ 0 → QR G m S X c Q) (q0 : dialC S a g l = 0 → QP G m S X (dials S a g l) Q) : TC Z (d + 9) mi_X5_dial [tR (some m), tI a, tI g, tI l] (pM G m S X) Q := by
  have I := V.1
  have s36 := sub36 I
  unfold dialC at q1 q0
  refine c_X5_dial hM (mc_noSubscriber hM I ha (r_X5_dial_10 hM ?_))
  by_cases h1 : subOK S a
  · rw [decide_eq_true h1]
    refine ⟨by decide, fun h => absurd rfl h, fun _ => mc_noGroup hM I hb (r_X5_dial_18 hM ?_)⟩
    by_cases h2 : grpOK S g
    · rw [decide_eq_true h2]
      rw [if_pos ⟨h1, h2⟩] at q1 q0
      unfold subOK at h1
      unfold grpOK at h2
      have ref : ¬ (0 ≤ l ∧ l ≤ 99) → TC Z (d + 8) mi_X5_refuse [tR (some m), tI 2] (pM G m S (up2 X 0 31 0)) (KQ Z mi_X5_dial (d + 9) 39 42 [some (tR (some m)), some (tI a), some (tI g), some (tI l)] [] Q) := fun hn => by
        rw [if_neg hn] at q1
        exact mc_refuse hM (r_X5_dial_42 hM (q1 2 rfl (by decide) _ Xp.b))
      refine ⟨by decide, fun _ => ⟨hl, fun h3 => ref (by omega), fun h3 => ⟨fun h4 => ?_, fun h4 => ref (by omega)⟩⟩, fun h => absurd rfl h⟩
      rw [if_pos ⟨by omega, h4⟩] at q0
      exact note0 hM U (fun X1 hX1 => r_X5_dial_47 hM (mc_dials hM V (by omega) h2 (fun X2 hX2 => r_X5_dial_54 hM (q0 rfl X2 (hX1.s hX2)))))
    · rw [decide_eq_false h2]
      rw [if_neg (fun z => h2 z.2)] at q1
      exact ⟨by decide, fun h => absurd h (by decide), fun _ => mc_refuse hM (r_X5_dial_26 hM (q1 1 rfl (by decide) _ Xp.b))⟩
  · rw [decide_eq_false h1]
    rw [if_neg (fun z => h1 z.1)] at q1
    exact ⟨by decide, fun _ => mc_refuse hM (r_X5_dial_26 hM (q1 1 rfl (by decide) _ Xp.b)), fun h => absurd h (by decide)⟩
theorem mp_hangUp {Z : ZT} {d : Nat} {G : GH} {Q : TR → GH → Prop} {m : Nat} {S X : St} {s : Int} (hM : MOK G m) (V : Ok S) (U : UndoR X) (ha : inR s) (q1 : ∀ c, hangC S s = c → c ≠ 0 → QR G m S X c Q) (q0 : hangC S s = 0 → QP G m S X (hangs S s) Q) : TC Z (d + 9) mi_X5_hangUp [tR (some m), tI s] (pM G m S X) Q := by
  have I := V.1.1
  have s36 := sub36 I
  unfold hangC at q1 q0
  refine c_X5_hangUp hM (mc_noSubscriber hM I ha (r_X5_hangUp_10 hM ?_))
  by_cases h1 : subOK S s
  · rw [decide_eq_true h1]
    rw [if_pos h1] at q1 q0
    unfold subOK at h1
    refine ⟨by decide, fun _ => mc_isIdle hM I ha (r_X5_hangUp_24 hM ?_), fun h => absurd rfl h⟩
    cases h2 : idleB S s with
    | false =>
      rw [h2, if_neg (by decide)] at q0
      exact ⟨by decide, fun _ => note0 hM U (fun X1 hX1 => r_X5_hangUp_37 hM (mc_hangs hM V (by omega) h2 (fun X2 hX2 => r_X5_hangUp_42 hM (q0 rfl X2 (hX1.s hX2))))), fun h => absurd rfl h⟩
    | true =>
      rw [h2, if_pos rfl] at q1
      exact ⟨by decide, fun h => absurd h (by decide), fun _ => mc_refuse hM (r_X5_hangUp_32 hM (q1 2 rfl (by decide) _ Xp.b))⟩
  · rw [decide_eq_false h1]
    rw [if_neg h1] at q1
    exact ⟨by decide, fun h => absurd h (by decide), fun _ => mc_refuse hM (r_X5_hangUp_18 hM (q1 1 rfl (by decide) _ Xp.b))⟩
theorem mp_tick {Z : ZT} {d : Nat} {G : GH} {Q : TR → GH → Prop} {m : Nat} {S X : St} {n : Int} (hM : MOK G m) (V : Ok S) (U : UndoR X) (ha : inR n) (q1 : ∀ c, tickC S n = c → c ≠ 0 → QR G m S X c Q) (q0 : tickC S n = 0 → QP G m S X (ticksL n.toNat 0 S) Q) : TC Z (d + 9) mi_X5_tick [tR (some m), tI n] (pM G m S X) Q := by
  have I := V.1.1
  obtain ⟨⟨i38, i39, i40, i41, i42, i43, i44, i45, i46, i47, i55, i60⟩, irow, iwait, igrp⟩ := id I
  unfold tickC at q1 q0
  refine c_X5_tick hM ⟨ha, fun h => ?_, fun h => ⟨fun h2 => ⟨by omega, fun h3 => ?_, fun h3 => ?_⟩, fun h2 => ?_⟩⟩
  · rw [if_neg (by omega)] at q1
    exact mc_refuse hM (r_X5_tick_21 hM (q1 1 rfl (by decide) _ Xp.b))
  · rw [if_pos (by omega), if_pos h3] at q0
    refine note0 hM U (fun X1 hX1 => r_X5_tick_44 hM ?_)
    have loop : ∀ (r k : Nat) (e : Int) (S1 X2 : St), (k : Int) + r = n → Ok S1 → S1 0 44 + r ≤ 100000 → PushC S X X2 0 → ticksL r e S1 = ticksL n.toNat 0 S → TW Z mi_X5_tick (d + 9) 48 [some (tR (some m)), some (tI n), some (tI e), some (tI (k : Int))] [] (pM G m S1 X2) Q := by
      intro r
      induction r with
      | zero =>
        intro k e S1 X2 hk V1 ht hX he
        have he : (e, S1) = ticksL n.toNat 0 S := he
        have q0 := q0 rfl X2 hX
        rw [← he] at q0
        exact r_X5_tick_48 hM ⟨by omega, ha, fun _ => q0, fun h => by omega⟩
      | succ r ih =>
        intro k e S1 X2 hk V1 ht hX he
        obtain ⟨a, b, c⟩ := V1.pss (by omega)
        exact r_X5_tick_48 hM ⟨by omega, ha, fun h => by omega, fun _ => mc_passes hM V1 (by omega) (fun X3 hX3 => r_X5_tick_58 hM (ih (k + 1) (e + (passes S1).1) (passes S1).2 X3 (by omega) a (by omega) (hX.s hX3) he))⟩
    exact loop n.toNat 0 0 S X1 (by omega) V (by omega) hX1 rfl
  · rw [if_pos (by omega), if_neg h3] at q1
    exact mc_refuse hM (r_X5_tick_39 hM (q1 2 rfl (by decide) _ Xp.b))
  · rw [if_neg (by omega)] at q1
    exact mc_refuse hM (r_X5_tick_21 hM (q1 1 rfl (by decide) _ Xp.b))
theorem mp_cut {Z : ZT} {d : Nat} {G : GH} {Q : TR → GH → Prop} {m : Nat} {S X : St} {k : Int} (hM : MOK G m) (V : Ok S) (U : UndoR X) (ha : inR k) (q1 : ∀ c, cutC S k = c → c ≠ 0 → QR G m S X c Q) (q0 : cutC S k = 0 → QP G m S X (cuts S k) Q) : TC Z (d + 9) mi_X5_cut [tR (some m), tI k] (pM G m S X) Q := by
  have I := V.1.1
  unfold cutC at q1 q0
  refine c_X5_cut hM (mc_noMiddle hM I ha (r_X5_cut_10 hM ?_))
  by_cases h1 : midOK S k
  · rw [decide_eq_true h1]
    rw [if_pos h1] at q1 q0
    refine ⟨by decide, fun _ => mc_isCut hM (r_X5_cut_24 hM ?_), fun h => absurd rfl h⟩
    cases h2 : isCutB S k with
    | false =>
      rw [h2, if_neg (by decide)] at q0
      exact ⟨by decide, fun _ => note0 hM U (fun X1 hX1 => r_X5_cut_37 hM (mc_cuts hM V h1 (fun X2 hX2 => r_X5_cut_42 hM (q0 rfl X2 (hX1.w hX2))))), fun h => absurd rfl h⟩
    | true =>
      rw [h2, if_pos rfl] at q1
      exact ⟨by decide, fun h => absurd h (by decide), fun _ => mc_refuse hM (r_X5_cut_32 hM (q1 2 rfl (by decide) _ Xp.b))⟩
  · rw [decide_eq_false h1]
    rw [if_neg h1] at q1
    exact ⟨by decide, fun h => absurd h (by decide), fun _ => mc_refuse hM (r_X5_cut_18 hM (q1 1 rfl (by decide) _ Xp.b))⟩
theorem mp_mend {Z : ZT} {d : Nat} {G : GH} {Q : TR → GH → Prop} {m : Nat} {S X : St} {k : Int} (hM : MOK G m) (V : Ok S) (U : UndoR X) (ha : inR k) (q1 : ∀ c, mendC S k = c → c ≠ 0 → QR G m S X c Q) (q0 : mendC S k = 0 → QP G m S X (inOrd (mends S k), mends S k) Q) : TC Z (d + 9) mi_X5_mend [tR (some m), tI k] (pM G m S X) Q := by
  have I := V.1.1
  unfold mendC at q1 q0
  refine c_X5_mend hM (mc_noMiddle hM I ha (r_X5_mend_10 hM ?_))
  by_cases h1 : midOK S k
  · rw [decide_eq_true h1]
    rw [if_pos h1] at q1 q0
    refine ⟨by decide, fun _ => mc_isCut hM (r_X5_mend_24 hM ?_), fun h => absurd rfl h⟩
    cases h2 : isCutB S k with
    | true =>
      rw [h2, if_pos rfl] at q0
      exact ⟨by decide, fun _ => note0 hM U (fun X1 hX1 => r_X5_mend_37 hM (mc_serves hM (V.mended h1).1 (fun X2 hX2 => r_X5_mend_55 hM (mc_inOrder hM (V.mnd h1).1.1.1 (r_X5_mend_59 hM (q0 rfl X2 (hX1.s hX2))))))), fun h => absurd h (by decide)⟩
    | false =>
      rw [h2, if_neg (by decide)] at q1
      exact ⟨by decide, fun h => absurd rfl h, fun _ => mc_refuse hM (r_X5_mend_32 hM (q1 2 rfl (by decide) _ Xp.b))⟩
  · rw [decide_eq_false h1]
    rw [if_neg h1] at q1
    exact ⟨by decide, fun h => absurd h (by decide), fun _ => mc_refuse hM (r_X5_mend_18 hM (q1 1 rfl (by decide) _ Xp.b))⟩
theorem mp_setMode {Z : ZT} {d : Nat} {G : GH} {Q : TR → GH → Prop} {m : Nat} {S X : St} {v : Int} (hM : MOK G m) (V : Ok S) (U : UndoR X) (ha : inR v) (q1 : ∀ c, modeC v = c → c ≠ 0 → QR G m S X c Q) (q0 : modeC v = 0 → QP G m S X (S 0 42, serves (up2 S 0 42 v)) Q) : TC Z (d + 9) mi_X5_setMode [tR (some m), tI v] (pM G m S X) Q := by
  unfold modeC at q1 q0
  refine c_X5_setMode hM ⟨ha, fun h => ?_, fun h => ⟨fun h2 => ?_, fun h2 => ?_⟩⟩
  · rw [if_neg (by omega)] at q1
    exact mc_refuse hM (r_X5_setMode_19 hM (q1 1 rfl (by decide) _ Xp.b))
  · rw [if_pos (by omega)] at q0
    exact note0 hM U (fun X1 hX1 => r_X5_setMode_24 hM (mc_serves hM (V.mode (by omega)).1 (fun X2 hX2 => r_X5_setMode_38 hM (q0 rfl X2 (hX1.s hX2)))))
  · rw [if_neg (by omega)] at q1
    exact mc_refuse hM (r_X5_setMode_19 hM (q1 1 rfl (by decide) _ Xp.b))
theorem mp_setHunt {Z : ZT} {d : Nat} {G : GH} {Q : TR → GH → Prop} {m : Nat} {S X : St} {v : Int} (hM : MOK G m) (U : UndoR X) (ha : inR v) (q1 : ∀ c, huntC v = c → c ≠ 0 → QR G m S X c Q) (q0 : huntC v = 0 → QP G m S X (S 0 43, up2 S 0 43 v) Q) : TC Z (d + 9) mi_X5_setHunt [tR (some m), tI v] (pM G m S X) Q := by
  unfold huntC at q1 q0
  refine c_X5_setHunt hM ⟨ha, fun h => ?_, fun h => ⟨fun h2 => ?_, fun h2 => ?_⟩⟩
  · rw [if_neg (by omega)] at q1
    exact mc_refuse hM (r_X5_setHunt_19 hM (q1 1 rfl (by decide) _ Xp.b))
  · rw [if_pos (by omega)] at q0
    exact note0 hM U (fun X1 hX1 => r_X5_setHunt_24 hM (q0 rfl X1 hX1))
  · rw [if_neg (by omega)] at q1
    exact mc_refuse hM (r_X5_setHunt_19 hM (q1 1 rfl (by decide) _ Xp.b))
theorem mp_pack {Z : ZT} {d : Nat} {G : GH} {Q : TR → GH → Prop} {m : Nat} {S X : St} (hM : MOK G m) (V : Ok S) (U : UndoR X) (q0 : QP G m S X ((packs S).1, serves (packs S).2) Q) : TC Z (d + 9) mi_X5_pack [tR (some m)] (pM G m S X) Q :=
  c_X5_pack hM (note0 hM U (fun X1 hX1 => r_X5_pack_9 hM (mc_packs hM V (fun X2 hX2 => r_X5_pack_13 hM (mc_serves hM V.pks.1.1 (fun X3 hX3 => r_X5_pack_18 hM (q0 X3 ((hX1.w hX2).s hX3))))))))
/-- one step back -/
def UndoC (X X' : St) : Prop := X' 0 31 = 0 ∧ X' 0 68 = X 0 68 - 1 ∧ ∀ f c : Nat, (f ≠ 0 ∨ (c ≠ 31 ∧ c ≠ 68 ∧ c ≠ 83)) → X' f c = X f c
theorem mp_undo {Z : ZT} {d : Nat} {G : GH} {Q : TR → GH → Prop} {m : Nat} {S X : St} (hM : MOK G m) (U : UndoR X) (q1 : X 0 68 = 0 → QR G m S X 1 Q) (q0 : X 0 68 ≠ 0 → ∀ S' X', Sg (stk X ((X 0 68).toNat - 1)) S' → UndoC X X' → Q (.inl (some (tI (X 0 68 - 1)))) (pM G m S' X')) : TC Z (d + 9) mi_X5_undo [tR (some m)] (pM G m S X) Q := by
  obtain ⟨⟨u1, u2⟩, u3, u4⟩ := id U
  refine c_X5_undo hM ⟨by omega, fun h => ⟨by omega, ?_⟩, fun h => mc_refuse hM (r_X5_undo_17 hM (q1 h _ Xp.b))⟩
  have e : (X 0 67 + (X 0 68 - 1)).tmod 8 = ((((X 0 67).toNat + ((X 0 68).toNat - 1)) % 8 : Nat) : Int) := by
    rw [Int.tmod_eq_emod_of_nonneg (by omega)]
    omega
  rw [e]
  have hk : ((X 0 67).toNat + ((X 0 68).toNat - 1)) % 8 < 8 := Nat.mod_lt _ (by decide)
  generalize hkk : ((X 0 67).toNat + ((X 0 68).toNat - 1)) % 8 = k at *
  refine mc_takeImage hM (by omega) (r_X5_undo_44 hM ?_)
  have e68 : up2 (up2 (up2 X 0 31 0) 0 68 (X 0 68 - 1)) 0 83 (320 * (k : Int) + 261) 0 68 = X 0 68 - 1 := by rw [up2_ne (Or.inr (by decide)), up2_at]
  rw [e68]
  refine q0 h _ _ (fun f c hf => ?_) ⟨?_, e68, fun f c hf => ?_⟩
  · rw [takP_in hf, up2_ne (Or.inl (by decide)), up2_ne (Or.inl (by decide))]
    unfold stk imgS slotN
    rw [hkk]
  · rw [up2_ne (Or.inr (by decide)), up2_ne (Or.inr (by decide)), up2_at]
  · rw [up2_ne (by omega), up2_ne (by omega), up2_ne (by omega)]
def slotC (v : Int) : Int := if 0 ≤ v ∧ v ≤ 1 then 0 else 1
/-- the slot v holds S -/
def SaveC (v : Nat) (S X X' : St) : Prop := X' 0 31 = 0 ∧ Sg S (imgS X' (8 + v)) ∧ X' 69 v = 1 ∧ ∀ f c : Nat, (f ≠ 66 ∨ c < 320 * (8 + v) ∨ 320 * (8 + v) + 320 ≤ c) → (f ≠ 69 ∨ c ≠ v) → (f ≠ 0 ∨ (c ≠ 31 ∧ c ≠ 83)) → X' f c = X f c
theorem mp_save {Z : ZT} {d : Nat} {G : GH} {Q : TR → GH → Prop} {m : Nat} {S X : St} {v : Int} (hM : MOK G m) (ha : inR v) (q1 : slotC v = 1 → QR G m S X 1 Q) (q0 : slotC v = 0 → ∀ X', SaveC v.toNat S X X' → Q (.inl (some (tI (S 0 44)))) (pM G m S X')) : TC Z (d + 9) mi_X5_save [tR (some m), tI v] (pM G m S X) Q := by
  unfold slotC at q1 q0
  refine c_X5_save hM ⟨ha, fun h => ?_, fun h => ⟨fun h2 => ?_, fun h2 => ?_⟩⟩
  · rw [if_neg (by omega)] at q1
    exact mc_refuse hM (r_X5_save_19 hM (q1 rfl _ Xp.b))
  · rw [if_pos (by omega)] at q0
    obtain ⟨n, rfl⟩ : ∃ n : Nat, v = (n : Int) := ⟨v.toNat, by omega⟩
    simp only [Int.toNat_natCast] at q0
    have en : (8 : Int) + (n : Int) = ((8 + n : Nat) : Int) := by omega
    rw [en]
    refine mc_keepImage (k := 8 + n) hM (by omega) (r_X5_save_28 hM ⟨by omega, ?_⟩)
    simp only [Int.toNat_natCast]
    refine q0 trivial _ ⟨?_, fun f c hf => ?_, up2_at, fun f c h1 h2 h3 => ?_⟩
    · rw [up2_ne (Or.inl (by decide)), up2_ne (Or.inr (by decide)), imgP_off (Or.inl (by decide)) (by decide), up2_at]
    · unfold imgS
      rw [up2_ne (Or.inl (by decide)), up2_ne (Or.inl (by decide)), imgP_in hf]
    · rw [up2_ne (by omega), up2_ne (by omega), imgP_off h1 (by decide), up2_ne (by omega)]
  · rw [if_neg (by omega)] at q1
    exact mc_refuse hM (r_X5_save_19 hM (q1 rfl _ Xp.b))
def restC (X : St) (v : Int) : Int := if 0 ≤ v ∧ v ≤ 1 then (if X 69 v.toNat = 0 then 2 else 0) else 1
theorem mp_restore {Z : ZT} {d : Nat} {G : GH} {Q : TR → GH → Prop} {m : Nat} {S X : St} {v : Int} (hM : MOK G m) (U : UndoR X) (ha : inR v) (h69 : inR (X 69 v.toNat)) (q1 : ∀ c, restC X v = c → c ≠ 0 → QR G m S X c Q) (q0 : restC X v = 0 → ∀ S' X', Sg (imgS X (8 + v.toNat)) S' → PushC S X X' 0 → Q (.inl (some (tI (S' 0 44)))) (pM G m S' X')) : TC Z (d + 9) mi_X5_restore [tR (some m), tI v] (pM G m S X) Q := by
  unfold restC at q1 q0
  refine c_X5_restore hM ⟨ha, fun h => ?_, fun h => ⟨fun h2 => ⟨by omega, h69, fun h3 => ?_, fun h3 => ?_⟩, fun h2 => ?_⟩⟩
  · rw [if_neg (by omega)] at q1
    exact mc_refuse hM (r_X5_restore_19 hM (q1 1 rfl (by decide) _ Xp.b))
  · rw [if_pos (by omega), if_neg h3] at q0
    obtain ⟨n, rfl⟩ : ∃ n : Nat, v = (n : Int) := ⟨v.toNat, by omega⟩
    simp only [Int.toNat_natCast] at q0
    have en : (8 : Int) + (n : Int) = ((8 + n : Nat) : Int) := by omega
    refine note0 hM U (fun X1 hX1 => r_X5_restore_39 hM ?_)
    rw [en]
    refine mc_takeImage (k := 8 + n) hM (by omega) (r_X5_restore_47 hM ?_)
    obtain ⟨p1, p2, p3, p4, p5⟩ := id hX1
    refine q0 trivial _ _ (fun f c hf => ?_) ?_
    · rw [takP_in hf]
      exact p5 66 _ (by decide) (by decide) (by decide) (by omega) (Or.inl (by decide))
    · have e : ∀ f c : Nat, (f ≠ 0 ∨ c ≠ 83) → up2 X1 0 83 (320 * ((8 + n : Nat) : Int) + 261) f c = X1 f c := fun f c hf => up2_ne (by omega)
      have e67 := e 0 67 (by decide)
      have e68 := e 0 68 (by decide)
      refine ⟨(e 0 31 (by decide)).trans p1, ?_, by rw [e68]; exact p3, ?_, fun f c a1 a2 a3 a4 a5 => (e f c (by omega)).trans (p5 f c a1 a2 a3 a4 a5)⟩
      · unfold UndoR; rw [e67, e68]; exact p2
      · intro i hi f c hf
        rw [e68] at hi
        rw [← p4 i hi f c hf]
        unfold stk imgS slotN
        rw [e67]
        exact e 66 _ (Or.inl (by decide))
  · rw [if_pos (by omega), if_pos h3] at q1
    exact mc_refuse hM (r_X5_restore_34 hM (q1 2 rfl (by decide) _ Xp.b))
  · rw [if_neg (by omega)] at q1
    exact mc_refuse hM (r_X5_restore_19 hM (q1 1 rfl (by decide) _ Xp.b))
