/-! THE MODEL'S METHODS, 2: chains, routes -/
/-- the scratch of chains may differ -/
def Xs (X X' : St) : Prop := ∀ f c : Nat, f ≠ 70 → f ≠ 71 → (f ≠ 0 ∨ c < 72 ∨ 75 < c) → X' f c = X f c
theorem Xs.rfl' {X : St} : Xs X X := fun _ _ _ _ _ => rfl
theorem Xs.trans {X Y W : St} (h : Xs X Y) (k : Xs Y W) : Xs X W := fun f c h1 h2 h3 => (k f c h1 h2 h3).trans (h f c h1 h2 h3)
theorem Xs.up {X Y : St} (h : Xs X Y) {f c : Nat} {v : Int} (hf : f = 70 ∨ f = 71 ∨ (f = 0 ∧ 72 ≤ c ∧ c ≤ 75)) : Xs X (up2 Y f c v) := fun f' c' h1 h2 h3 => (up2_ne (by omega)).trans (h f' c' h1 h2 h3)
theorem Xs.off {X Y W : St} (h : Xs X Y) {g : Nat} (hg : g = 70 ∨ g = 71) (k : ∀ f c : Nat, f ≠ g → W f c = Y f c) : Xs X W := fun f c h1 h2 h3 => (k f c (by omega)).trans (h f c h1 h2 h3)
/-- the scratch of chains and cuts may differ -/
def Xw (X X' : St) : Prop := ∀ f c : Nat, f ≠ 70 → f ≠ 71 → f ≠ 76 → (f ≠ 0 ∨ c < 72 ∨ 75 < c) → X' f c = X f c
theorem Xs.w {X X' : St} (h : Xs X X') : Xw X X' := fun f c h1 h2 _ h4 => h f c h1 h2 h4
theorem Xw.trans {X Y W : St} (h : Xw X Y) (k : Xw Y W) : Xw X W := fun f c h1 h2 h3 h4 => (k f c h1 h2 h3 h4).trans (h f c h1 h2 h3 h4)
theorem Xw.up {X Y : St} (h : Xw X Y) {c : Nat} {v : Int} : Xw X (up2 Y 76 c v) := fun f' c' h1 h2 h3 h4 => (up2_ne (by omega)).trans (h f' c' h1 h2 h3 h4)
/-- the chain that was found last -/
def RepCh (X : St) (o : Option Ch) : Prop := match o with
  | none => X 0 72 = 0
  | some c => X 0 72 = c.1.length ∧ 0 < c.1.length ∧ c.1.length ≤ 20 ∧ X 0 73 = c.2.1 ∧ X 0 74 = c.2.2.1 ∧ X 0 75 = b2i c.2.2.2 ∧ ∀ (n : Nat) (h : n < c.1.length), X 70 n = (c.1[n] : Nat)
theorem RepCh.off {X Y : St} {o : Option Ch} (h : RepCh X o) (k : ∀ f c : Nat, f ≠ 71 → Y f c = X f c) : RepCh Y o := by
  cases o with
  | none => exact (k 0 72 (by decide)).trans h
  | some c =>
    obtain ⟨h1, h2, h3, h4, h5, h6, h7⟩ := h
    exact ⟨(k 0 72 (by decide)).trans h1, h2, h3, (k 0 73 (by decide)).trans h4, (k 0 74 (by decide)).trans h5, (k 0 75 (by decide)).trans h6, fun n hn => (k 70 n (by decide)).trans (h7 n hn)⟩
/-- every walk that is tried has an end -/
def WalkOK (S : St) (i j low : Int) : Prop := ∀ (p q : Int) (b : Bool), 0 ≤ p → p < S 0 40 → 0 ≤ q → q < S 0 40 → isThereB S p low = true → carriedAt S p i false = -1 → isThereB S q low = true → carriedAt S q j true = -1 → 0 < (walkS S p q i j b).length ∧ (walkS S p q i j b).length ≤ 20
theorem mc_findChain {Z : ZT} {d : Nat} {G : GH} {Q : TR → GH → Prop} {m : Nat} {S X : St} {i j low : Int} (hM : MOK G m) (I : Rg S) (hi : inR i) (hj : inR j) (hl : inR low) (W : WalkOK S i j low)
    (q : ∀ X', Xs X X' → RepCh X' (chain S i j low) → Q (.inl (some (tI (b2i (chain S i j low).isSome)))) (pM G m S X')) : TC Z (d + 4) mi_X5_findChain [tR (some m), tI i, tI j, tI low] (pM G m S X) Q := by
  obtain ⟨⟨i38, i39, i40, i41, i42, i43, i44, i45, i46, i47, i55, i60⟩, irow, iwait, igrp⟩ := id I
  -- the copy of a chain
  have copy : ∀ (k n : Nat) (X1 : St) (p q' t sz : Int), sz = ((n + k : Nat) : Int) → n + k ≤ 20 → 0 ≤ t ∧ t < 3 →
      (∀ X' : St, (∀ f c : Nat, f ≠ 70 → X' f c = X1 f c) → (∀ c, c < n → X' 70 c = X1 70 c) → (∀ c, n ≤ c → c < n + k → X' 70 c = X1 71 c) → ∀ o7 o8, TW Z mi_X5_findChain (d + 4) 82 [some (tR (some m)), some (tI i), some (tI j), some (tI low), some (tI p), some (tI q'), some (tI (t + 1)), o7, o8] [] (pM G m S X') Q) →
      TW Z mi_X5_findChain (d + 4) 161 [some (tR (some m)), some (tI i), some (tI j), some (tI low), some (tI p), some (tI q'), some (tI t), some (tI sz), some (tI (n : Int))] [] (pM G m S X1) Q := by
    intro k
    induction k with
    | zero =>
      intro n X1 p q' t sz hs hn ht q
      exact r_X5_findChain_161 hM ⟨by omega, by omega, fun _ => q X1 (fun _ _ _ => rfl) (fun _ _ => rfl) (fun c h1 h2 => by omega) _ _, fun h => by omega⟩
    | succ k ih =>
      intro n X1 p q' t sz hs hn ht q
      refine r_X5_findChain_161 hM ⟨by omega, by omega, fun h => by omega, fun _ => ⟨by omega, ?_⟩⟩
      simp only [Int.toNat_natCast]
      refine ih (n + 1) _ p q' t sz (by omega) (by omega) ht (fun X' h1 h2 h3 o7 o8 => q X' (fun f c hf => (h1 f c hf).trans (up2_ne (Or.inl hf))) (fun c hc => (h2 c (by omega)).trans (up2_ne (Or.inr (by omega)))) (fun c hc1 hc2 => ?_) o7 o8)
      by_cases e : c = n
      · subst e
        exact (h2 c (by omega)).trans up2_at
      · exact (h3 c (by omega) (by omega)).trans (up2_ne (Or.inl (by decide)))
  -- one walk
  have step : ∀ (p q' : Nat) (b : Bool) (best : Option Ch) (X1 : St) (o7 o8 : Option Value), (p : Int) < S 0 40 → (q' : Int) < S 0 40 → 0 < (walkS S p q' i j b).length → (walkS S p q' i j b).length ≤ 20 → Xs X X1 → RepCh X1 best →
      (∀ X2, Xs X X2 → RepCh X2 (chStep S i j p q' b best) → ∀ o7 o8, TW Z mi_X5_findChain (d + 4) 82 [some (tR (some m)), some (tI i), some (tI j), some (tI low), some (tI (p : Int)), some (tI (q' : Int)), some (tI (b2i (!b) + 1)), o7, o8] [] (pM G m S X2) Q) →
      TC Z (d + 3) mi_X5_walk [tR (some m), tI (p : Int), tI (q' : Int), tI i, tI j, tI (b2i b)] (pM G m S X1) (KQ Z mi_X5_findChain (d + 4) 105 108 [some (tR (some m)), some (tI i), some (tI j), some (tI low), some (tI (p : Int)), some (tI (q' : Int)), some (tI (b2i (!b))), o7, o8] [] Q) := by
    intro p q' b best X1 o7 o8 hp hq w0 w1 hX hR q
    refine mc_walk hM I (by omega) (by omega) hi hj w1 (fun X2 h1 h2 => r_X5_findChain_108 hM ?_)
    have hX2 : Xs X X2 := hX.off (Or.inr rfl) h1
    have hR2 := hR.off h1
    -- the new chain is taken
    have take : ∀ v, v = b2i b → (chStep S i j p q' b best = some (walkS S p q' i j b, (p : Int), (q' : Int), b)) →
        TW Z mi_X5_findChain (d + 4) 161 [some (tR (some m)), some (tI i), some (tI j), some (tI low), some (tI (p : Int)), some (tI (q' : Int)), some (tI (b2i (!b))), some (tI (walkS S p q' i j b).length), some (tI 0)] [] (pM G m S (up2 (up2 (up2 (up2 X2 0 72 (walkS S p q' i j b).length) 0 73 p) 0 74 q') 0 75 v)) Q := by
      intro v hv hc
      subst hv
      refine copy (walkS S p q' i j b).length 0 _ p q' (b2i (!b)) _ (by omega) (by omega) (by have := b2i_rng (!b); omega) (fun X' g1 g2 g3 o7 o8 => ?_)
      refine q X' (Xs.off ((((hX2.up (by omega)).up (by omega)).up (by omega)).up (by omega)) (Or.inl rfl) g1) ?_ o7 o8
      rw [hc]
      refine ⟨?_, w0, w1, ?_, ?_, ?_, fun n hn => ?_⟩
      · rw [g1 _ _ (by decide), up2_ne (Or.inr (by decide)), up2_ne (Or.inr (by decide)), up2_ne (Or.inr (by decide)), up2_at]
      · rw [g1 _ _ (by decide), up2_ne (Or.inr (by decide)), up2_ne (Or.inr (by decide)), up2_at]
      · rw [g1 _ _ (by decide), up2_ne (Or.inr (by decide)), up2_at]
      · rw [g1 _ _ (by decide), up2_at]
      · have hn : n < (walkS S p q' i j b).length := hn
        rw [g3 n (by omega) (by omega), up2_ne (Or.inl (by decide)), up2_ne (Or.inl (by decide)), up2_ne (Or.inl (by decide)), up2_ne (Or.inl (by decide)), h2 n hn]
    have alt : ∀ (P : Prop), (chStep S i j p q' b best = some (walkS S p q' i j b, (p : Int), (q' : Int), b)) → inR (b2i (!b)) ∧ ((¬ b2i (!b) = 0 → TW Z mi_X5_findChain (d + 4) 161 [some (tR (some m)), some (tI i), some (tI j), some (tI low), some (tI (p : Int)), some (tI (q' : Int)), some (tI (b2i (!b))), some (tI (walkS S p q' i j b).length), some (tI 0)] [] (pM G m S (up2 (up2 (up2 (up2 X2 0 72 (walkS S p q' i j b).length) 0 73 p) 0 74 q') 0 75 0)) Q) ∧ (b2i (!b) = 0 → TW Z mi_X5_findChain (d + 4) 161 [some (tR (some m)), some (tI i), some (tI j), some (tI low), some (tI (p : Int)), some (tI (q' : Int)), some (tI (b2i (!b))), some (tI (walkS S p q' i j b).length), some (tI 0)] [] (pM G m S (up2 (up2 (up2 (up2 X2 0 72 (walkS S p q' i j b).length) 0 73 p) 0 74 q') 0 75 1)) Q)) := by
      intro _ hc
      refine ⟨by have := b2i_rng (!b); omega, fun h => take 0 ?_ hc, fun h => take 1 ?_ hc⟩
      · cases b <;> simp [b2i] at h ⊢
      · cases b <;> simp [b2i] at h ⊢
    cases best with
    | none =>
      have e0 : X2 0 72 = 0 := hR2
      exact ⟨by omega, fun _ => alt True rfl, fun h => absurd e0 h⟩
    | some c =>
      obtain ⟨e1, e2, e3, e4⟩ := id hR2
      refine ⟨by omega, fun h => by omega, fun _ => ⟨by omega, fun h => q X2 hX2 ?_ _ _, fun h => alt True ?_⟩⟩
      · have : chStep S i j p q' b (some c) = some c := by unfold chStep; exact if_neg (by omega)
        rw [this]
        exact hR2
      · unfold chStep
        exact if_pos (by omega)
  -- the loop over q
  have loopQ : ∀ (r q' p : Nat) (best : Option Ch) (X1 : St) (o6 o7 o8 : Option Value), (S 0 40).toNat = q' + r → (p : Int) < S 0 40 → isThereB S p low = true → carriedAt S p i false = -1 → Xs X X1 → RepCh X1 best →
      (∀ X2, Xs X X2 → RepCh X2 (chQ S i j low p r q' best) → ∀ o5 o6 o7 o8, TW Z mi_X5_findChain (d + 4) 8 [some (tR (some m)), some (tI i), some (tI j), some (tI low), some (tI ((p : Int) + 1)), o5, o6, o7, o8] [] (pM G m S X2) Q) →
      TW Z mi_X5_findChain (d + 4) 45 [some (tR (some m)), some (tI i), some (tI j), some (tI low), some (tI (p : Int)), some (tI (q' : Int)), o6, o7, o8] [] (pM G m S X1) Q := by
    intro r
    induction r with
    | zero =>
      intro q' p best X1 o6 o7 o8 hc hp t1 t2 hX hR q
      exact r_X5_findChain_45 hM ⟨by omega, by omega, fun _ => q X1 hX hR _ _ _ _, fun h => by omega⟩
    | succ r ih =>
      intro q' p best X1 o6 o7 o8 hc hp t1 t2 hX hR q
      refine r_X5_findChain_45 hM ⟨by omega, by omega, fun h => by omega, fun _ => mc_isThere hM (by omega) hl (r_X5_findChain_61 hM ?_)⟩
      cases hb : isThereB S (q' : Int) low with
      | false => exact ⟨by decide, fun _ => ih (q' + 1) p best X1 _ _ _ (by omega) hp t1 t2 hX hR (by simpa [chQ, hb] using q), fun h => absurd rfl h⟩
      | true =>
        refine ⟨by decide, fun h => absurd h (by decide), fun _ => mc_carriedAt (b := true) hM I (by omega) hj (r_X5_findChain_72 hM ?_)⟩
        have cr := carriedAt_rng (S := S) (m := (q' : Int)) (s := j) (b := true)
        refine ⟨by omega, fun e => ?_, fun e => ih (q' + 1) p best X1 _ _ _ (by omega) hp t1 t2 hX hR (by simpa [chQ, hb, e] using q)⟩
        have wt := W p q' true (by omega) hp (by omega) (by omega) t1 t2 hb e
        have wf := W p q' false (by omega) hp (by omega) (by omega) t1 t2 hb e
        refine r_X5_findChain_82 hM ⟨by omega, fun h => absurd h (by decide), fun _ => ⟨fun h => absurd rfl h, fun _ => ?_⟩⟩
        refine step p q' true best X1 _ _ hp (by omega) wt.1 wt.2 hX hR (fun X2 hX2 hR2 o7 o8 => ?_)
        refine r_X5_findChain_82 hM ⟨by decide, fun h => absurd h (by decide), fun _ => ⟨fun _ => ?_, fun h => absurd h (by decide)⟩⟩
        refine step p q' false _ X2 _ _ hp (by omega) wf.1 wf.2 hX2 hR2 (fun X3 hX3 hR3 o7 o8 => ?_)
        exact r_X5_findChain_82 hM ⟨by decide, fun _ => ih (q' + 1) p _ X3 _ _ _ (by omega) hp t1 t2 hX3 hR3 (by simpa [chQ, hb, e] using q), fun h => absurd (by decide) h⟩
  -- the loop over p
  have loopP : ∀ (r p : Nat) (best : Option Ch) (X1 : St) (o5 o6 o7 o8 : Option Value), (S 0 40).toNat = p + r → Xs X X1 → RepCh X1 best → chain S i j low = chP S i j low r p best →
      TW Z mi_X5_findChain (d + 4) 8 [some (tR (some m)), some (tI i), some (tI j), some (tI low), some (tI (p : Int)), o5, o6, o7, o8] [] (pM G m S X1) Q := by
    intro r
    induction r with
    | zero =>
      intro p best X1 o5 o6 o7 o8 hc hX hR he
      have he : chain S i j low = best := he
      rw [he] at q
      have := q X1 hX hR
      refine r_X5_findChain_8 hM ⟨by omega, by omega, fun _ => ?_, fun h => by omega⟩
      cases best with
      | none =>
        have e0 : X1 0 72 = 0 := hR
        exact ⟨by omega, fun _ => this, fun h => by omega⟩
      | some c =>
        obtain ⟨e1, e2, e3, e4⟩ := id hR
        exact ⟨by omega, fun h => by omega, fun _ => this⟩
    | succ r ih =>
      intro p best X1 o5 o6 o7 o8 hc hX hR he
      refine r_X5_findChain_8 hM ⟨by omega, by omega, fun h => by omega, fun _ => mc_isThere hM (by omega) hl (r_X5_findChain_24 hM ?_)⟩
      cases hb : isThereB S (p : Int) low with
      | false => exact ⟨by decide, fun _ => ih (p + 1) best X1 _ _ _ _ (by omega) hX hR (by simpa [chP, hb] using he), fun h => absurd rfl h⟩
      | true =>
        refine ⟨by decide, fun h => absurd h (by decide), fun _ => mc_carriedAt (b := false) hM I (by omega) hi (r_X5_findChain_35 hM ?_)⟩
        have cr := carriedAt_rng (S := S) (m := (p : Int)) (s := i) (b := false)
        refine ⟨by omega, fun e => ?_, fun e => ih (p + 1) best X1 _ _ _ _ (by omega) hX hR (by simpa [chP, hb, e] using he)⟩
        exact loopQ (S 0 40).toNat 0 p best X1 _ _ _ (by omega) (by omega) hb e hX hR (fun X2 hX2 hR2 o5 o6 o7 o8 => ih (p + 1) _ X2 _ _ _ _ (by omega) hX2 hR2 (by simpa [chP, hb, e] using he))
  exact c_X5_findChain hM (loopP (S 0 40).toNat 0 none _ _ _ _ _ (by omega) (Xs.rfl'.up (by omega)) up2_at rfl)
def NoOpen (S : St) (i j low : Int) : Prop := ∀ k : Int, 0 ≤ k → k < S 0 40 → isOpenB S k i j low = false
def WalkAll (S : St) : Prop := ∀ i j low : Int, NoOpen S i j low → WalkOK S i j low
theorem huntL_none {S : St} (I : Rg S) {i j rule low : Int} : ∀ (r k : Nat) (best : Int), (S 0 40).toNat = k + r → -1 ≤ best → huntL S i j rule low r k best = -1 → best = -1 ∧ ∀ k' : Nat, k ≤ k' → k' < k + r → isOpenB S (huntM S rule k') i j low = false := by
  intro r
  induction r with
  | zero => intro k best _ _ h; exact ⟨h, fun k' h1 h2 => by omega⟩
  | succ r ih =>
    intro k best hc hb h
    have hm := huntM_rng I (rule := rule) (k := k) (by omega)
    simp only [huntL] at h
    by_cases ho : isOpenB S (huntM S rule k) i j low = true
    · by_cases hb1 : best = -1
      · rw [if_pos (by simp [ho, hb1])] at h
        have := (ih (k + 1) _ (by omega) (by omega) h).1
        omega
      · have := (ih (k + 1) _ (by omega) (by split <;> omega) h).1
        split at this <;> omega
    · have ho' : isOpenB S (huntM S rule k) i j low = false := by simpa using ho
      rw [if_neg (by simp [ho'])] at h
      obtain ⟨h1, h2⟩ := ih (k + 1) best (by omega) hb h
      refine ⟨h1, fun k' g1 g2 => ?_⟩
      by_cases e : k' = k
      · rw [e]; exact ho'
      · exact h2 k' (by omega) (by omega)
theorem hunted_none {S : St} (I : Rg S) {i j rule low : Int} (h : hunted S i j rule low = -1) : NoOpen S i j low := by
  obtain ⟨⟨i38, i39, i40, i41, i42, i43, i44, i45, i46, i47, i55, i60⟩, irow, iwait, igrp⟩ := id I
  have := (huntL_none I _ _ _ (by omega) (by omega) h).2
  intro k h0 h1
  by_cases e : rule = 2
  · -- the turn at which the middle k comes
    have hmod : ∃ k' : Nat, k' < (S 0 40).toNat ∧ huntM S rule k' = k := by
      have e0 : ∀ k' : Nat, huntM S rule k' = (S 0 45 + 1 + (k' : Int)) % S 0 40 := fun k' => by
        unfold huntM
        rw [if_pos e, Int.tmod_eq_emod_of_nonneg (by omega)]
      refine ⟨((k - S 0 45 - 1) % S 0 40).toNat, ?_, ?_⟩
      · have a1 := Int.emod_nonneg (k - S 0 45 - 1) (show S 0 40 ≠ 0 by omega)
        have a2 := Int.emod_lt_of_pos (k - S 0 45 - 1) (show 0 < S 0 40 by omega)
        omega
      · rw [e0, Int.toNat_of_nonneg (Int.emod_nonneg _ (by omega)), Int.add_emod_emod, show S 0 45 + 1 + (k - S 0 45 - 1) = k by omega, Int.emod_eq_of_lt h0 h1]
    obtain ⟨k', g1, g2⟩ := hmod
    rw [← g2]
    exact this k' (by omega) (by omega)
  · have := this k.toNat (by omega) (by omega)
    unfold huntM at this
    rwa [if_neg e, Int.toNat_of_nonneg h0] at this
theorem flipL_off {p q : Int} {b : Bool} {f x : Nat} (h1 : f ≠ 51) (h2 : f ≠ 54) : ∀ (l : List Nat) (S : St), flipL p q b l S f x = S f x := by
  intro l
  induction l with
  | nil => intro S; rfl
  | cons c l ih => intro S; exact (ih _).trans ((up2_ne (Or.inl h2)).trans (up2_ne (Or.inl h1)))
theorem walkL_mem {S : St} {p q : Int} : ∀ (r : Nat) (c : Int) (b : Bool), -1 ≤ c ∧ c < (S 0 47).toNat → ∀ x ∈ walkL S p q r c b, x < (S 0 47).toNat := by
  intro r
  induction r with
  | zero => intro c b _ x hx; simp [walkL] at hx
  | succ r ih =>
    intro c b hc x hx
    simp only [walkL] at hx
    split at hx
    · simp at hx
    · rcases List.mem_cons.mp hx with e | h
      · omega
      · exact ih _ _ carriedAt_rng x h
theorem walkS_mem {S : St} {p q i j : Int} {b : Bool} : ∀ x ∈ walkS S p q i j b, x < (S 0 47).toNat := walkL_mem _ _ _ (by split <;> exact carriedAt_rng)
/-- what a chain that was found is -/
def ChGood (S : St) (i j low : Int) (c : Ch) : Prop := (0 ≤ c.2.1 ∧ c.2.1 < S 0 40) ∧ (0 ≤ c.2.2.1 ∧ c.2.2.1 < S 0 40) ∧ isThereB S c.2.1 low = true ∧ carriedAt S c.2.1 i false = -1 ∧ isThereB S c.2.2.1 low = true ∧ carriedAt S c.2.2.1 j true = -1 ∧ c.1 = walkS S c.2.1 c.2.2.1 i j c.2.2.2
theorem chStep_good {S : St} {i j low p q : Int} {b : Bool} {best : Option Ch} (hp : 0 ≤ p ∧ p < S 0 40) (hq : 0 ≤ q ∧ q < S 0 40) (h1 : isThereB S p low = true) (h2 : carriedAt S p i false = -1) (h3 : isThereB S q low = true) (h4 : carriedAt S q j true = -1) (h : ∀ c, best = some c → ChGood S i j low c) : ∀ c, chStep S i j p q b best = some c → ChGood S i j low c := by
  intro c hc
  cases best with
  | none => cases hc; exact ⟨hp, hq, h1, h2, h3, h4, rfl⟩
  | some c' =>
    simp only [chStep] at hc
    split at hc
    · cases hc; exact ⟨hp, hq, h1, h2, h3, h4, rfl⟩
    · exact h c (by rw [hc])
theorem chQ_good {S : St} {i j low p : Int} (hp : 0 ≤ p ∧ p < S 0 40) (h1 : isThereB S p low = true) (h2 : carriedAt S p i false = -1) : ∀ (r q : Nat) (best : Option Ch), (S 0 40).toNat = q + r → (∀ c, best = some c → ChGood S i j low c) → ∀ c, chQ S i j low p r q best = some c → ChGood S i j low c := by
  intro r
  induction r with
  | zero => intro q best _ h; exact h
  | succ r ih =>
    intro q best hc h
    simp only [chQ]
    refine ih (q + 1) _ (by omega) ?_
    split
    · rename_i hh
      simp only [Bool.and_eq_true, decide_eq_true_eq] at hh
      exact chStep_good hp (by omega) h1 h2 hh.1 hh.2 (chStep_good hp (by omega) h1 h2 hh.1 hh.2 h)
    · exact h
theorem chP_good {S : St} {i j low : Int} : ∀ (r p : Nat) (best : Option Ch), (S 0 40).toNat = p + r → (∀ c, best = some c → ChGood S i j low c) → ∀ c, chP S i j low r p best = some c → ChGood S i j low c := by
  intro r
  induction r with
  | zero => intro q best _ h; exact h
  | succ r ih =>
    intro p best hc h
    simp only [chP]
    refine ih (p + 1) _ (by omega) ?_
    split
    · rename_i hh
      simp only [Bool.and_eq_true, decide_eq_true_eq] at hh
      exact chQ_good (by omega) hh.1 hh.2 _ _ _ (by omega) h
    · exact h
theorem chain_good {S : St} {i j low : Int} {c : Ch} (h : chain S i j low = some c) : ChGood S i j low c := chP_good _ _ _ (by omega) (fun _ h => by cases h) c h
theorem mc_route {Z : ZT} {d : Nat} {G : GH} {Q : TR → GH → Prop} {m : Nat} {S X : St} {i j rule low : Int} {chains counts : Bool} (hM : MOK G m) (I : Rg S) (W : WalkAll S) (hi : inR i) (hj : inR j) (hr : inR rule) (hl : inR low)
    (q : ∀ X', Xs X X' → Q (.inl (some (tI (route S i j rule chains low counts).1))) (pM G m (route S i j rule chains low counts).2 X')) : TC Z (d + 5) mi_X5_route [tR (some m), tI i, tI j, tI rule, tI (b2i chains), tI low, tI (b2i counts)] (pM G m S X) Q := by
  obtain ⟨⟨i38, i39, i40, i41, i42, i43, i44, i45, i46, i47, i55, i60⟩, irow, iwait, igrp⟩ := id I
  have hr2 := hunted_rng I (i := i) (j := j) (rule := rule) (low := low)
  refine c_X5_route hM (mc_hunted hM I hi hj hr hl (r_X5_route_9 hM ⟨by omega, fun e => ?_, fun e => ⟨by have := b2i_rng chains; omega, fun e' => ?_, fun e' => ?_⟩⟩))
  · have := q X Xs.rfl'
    simpa [route, e] using this
  · have hc : chains = false := by cases chains <;> simp [b2i] at e' ⊢
    have := q X Xs.rfl'
    simpa [route, e, hc] using this
  · have hc : chains = true := by cases chains <;> simp [b2i] at e' ⊢
    have hro : route S i j rule chains low counts = (match chain S i j low with | none => (-1, S) | some c => (chMid c, tookS S c counts)) := if_pos ⟨e, hc⟩
    rw [hro] at q
    refine mc_findChain hM I hi hj hl (W i j low (hunted_none I e)) (fun X1 hX1 hR1 => r_X5_route_30 hM ?_)
    cases hch : chain S i j low with
    | none =>
      rw [hch] at q
      refine ⟨by decide, fun h => absurd rfl h, fun _ => ?_⟩
      rw [e]
      exact q X1 hX1
    | some c =>
      rw [hch] at q hR1
      have cg := chain_good hch
      obtain ⟨⟨p0, p1⟩, ⟨q0, q1⟩, -, -, -, -, cw⟩ := cg
      obtain ⟨x1, x2, x3, x4, x5, x6, x7⟩ := hR1
      have hmem : ∀ x ∈ c.1, x < (S 0 47).toNat := by rw [cw]; exact walkS_mem
      refine show inR 1 ∧ ((¬ (1 : Int) = 0 → _) ∧ ((1 : Int) = 0 → _)) from ⟨by decide, fun _ => ?_, fun h => absurd h (by decide)⟩
      have loop : ∀ (k n : Nat) (S1 : St), n + k = c.1.length → (∀ x, x < (S 0 47).toNat → inR (S1 51 x)) → flipL c.2.1 c.2.2.1 counts (c.1.drop n) S1 = flipL c.2.1 c.2.2.1 counts c.1 S → (∀ k, S1 65 k = S 65 k) → TW Z mi_X5_route (d + 5) 39 [some (tR (some m)), some (tI i), some (tI j), some (tI rule), some (tI (b2i chains)), some (tI low), some (tI (b2i counts)), some (tI (hunted S i j rule low)), some (tI (n : Int))] [] (pM G m S1 X1) Q := by
        intro k
        induction k with
        | zero =>
          intro n S1 hn hr1 hf h65
          have hd : c.1.drop n = [] := List.drop_eq_nil_of_le (by omega)
          rw [hd] at hf
          have hf : S1 = flipL c.2.1 c.2.2.1 counts c.1 S := hf
          have q1 := q X1 hX1
          have a8 := h65 8
          have a9 := h65 9
          refine r_X5_route_39 hM ⟨by omega, by omega, fun _ => ⟨by have := b2i_rng counts; omega, ?_⟩, fun h => by omega⟩
          have fin : ∀ v8 v9 : Int, v8 = S 65 8 + b2i counts → v9 = S 65 9 + (if counts = true then (c.1.length : Int) else 0) → inR (X1 0 75) ∧ ((X1 0 75 = 0 → Q (.inl (some (tI (X1 0 74)))) (pM G m (up2 (up2 S1 65 8 v8) 65 9 v9) X1)) ∧ (¬ X1 0 75 = 0 → Q (.inl (some (tI (X1 0 73)))) (pM G m (up2 (up2 S1 65 8 v8) 65 9 v9) X1))) := by
            intro v8 v9 h8 h9
            subst h8 h9
            rw [hf]
            refine ⟨by rw [x6]; have := b2i_rng c.2.2.2; omega, fun h => ?_, fun h => ?_⟩
            · have hb : c.2.2.2 = false := by rw [x6] at h; cases hb : c.2.2.2 <;> simp [hb, b2i] at h ⊢
              rw [x5]
              simpa [chMid, hb, tookS] using q1
            · have hb : c.2.2.2 = true := by rw [x6] at h; cases hb : c.2.2.2 <;> simp [hb, b2i] at h ⊢
              rw [x4]
              simpa [chMid, hb, tookS] using q1
          cases counts with
          | false => exact ⟨fun _ => ⟨fun _ => fin _ _ (by show S1 65 8 + 0 = _; rw [a8]; rfl) (by show S1 65 9 + 0 = _; rw [a9]; rfl), fun h => absurd rfl h⟩, fun h => absurd rfl h⟩
          | true => exact ⟨fun h => absurd h (by decide), fun _ => ⟨fun h => absurd h (by decide), fun _ => fin _ _ (by show S1 65 8 + 1 = _; rw [a8]; rfl) (by show S1 65 9 + X1 0 72 = _; rw [a9, x1]; rfl)⟩⟩
        | succ k ih =>
          intro n S1 hn hr1 hf h65
          have hlt : n < c.1.length := by omega
          have hx := x7 n hlt
          have hm := hmem c.1[n] (List.getElem_mem hlt)
          have hd : c.1.drop n = c.1[n] :: c.1.drop (n + 1) := List.drop_eq_getElem_cons hlt
          rw [hd] at hf
          have hf : flipL c.2.1 c.2.2.1 counts (c.1.drop (n + 1)) (up2 (up2 S1 51 c.1[n] (if S1 51 c.1[n] = c.2.1 then c.2.2.1 else c.2.1)) 54 c.1[n] (S1 54 c.1[n] + b2i counts)) = flipL c.2.1 c.2.2.1 counts c.1 S := hf
          refine r_X5_route_39 hM ⟨by omega, by omega, fun h => by omega, fun _ => ⟨by omega, ?_⟩⟩
          simp only [Int.toNat_natCast, hx, x4, x5]
          have go : ∀ (v w : Int), v = (if S1 51 c.1[n] = c.2.1 then c.2.2.1 else c.2.1) → w = S1 54 c.1[n] + b2i counts → TW Z mi_X5_route (d + 5) 39 [some (tR (some m)), some (tI i), some (tI j), some (tI rule), some (tI (b2i chains)), some (tI low), some (tI (b2i counts)), some (tI (hunted S i j rule low)), some (tI ((n : Int) + 1))] [] (pM G m (up2 (up2 S1 51 c.1[n] v) 54 c.1[n] w) X1) Q := by
            intro v w h1 h2
            subst h1 h2
            refine ih (n + 1) _ (by omega) (fun x hx => ?_) hf (fun k => (up2_ne (Or.inl (by decide))).trans ((up2_ne (Or.inl (by decide))).trans (h65 k)))
            rw [up2_ne (Or.inl (by decide))]
            by_cases ex : x = c.1[n]
            · subst ex
              rw [up2_at]
              split <;> omega
            · rw [up2_ne (Or.inr ex)]
              exact hr1 x hx
          refine ⟨by omega, hr1 _ hm, by omega, fun e5 => ⟨by have := b2i_rng counts; omega, ?_⟩, fun e5 => ⟨by have := b2i_rng counts; omega, ?_⟩⟩
          · cases counts with
            | false => exact ⟨fun _ => go _ _ (by rw [if_neg e5]) rfl, fun h => absurd rfl h⟩
            | true => exact ⟨fun h => absurd h (by decide), fun _ => go _ _ (by rw [if_neg e5]) rfl⟩
          · cases counts with
            | false => exact ⟨fun _ => go _ _ (by rw [if_pos e5]) rfl, fun h => absurd rfl h⟩
            | true => exact ⟨fun h => absurd h (by decide), fun _ => go _ _ (by rw [if_pos e5]) rfl⟩
      refine loop c.1.length 0 S (by omega) (fun x hx => ?_) rfl (fun _ => rfl)
      obtain ⟨-, -, -, r51, -⟩ := irow x hx
      omega
theorem mc_isBlocked {Z : ZT} {d : Nat} {G : GH} {Q : TR → GH → Prop} {m : Nat} {S X : St} {i j : Int} (hM : MOK G m) (I : Rg S) (W : WalkAll S) (hi : inR i) (hj : inR j) (q : ∀ X', Xs X X' → Q (.inl (some (tI (b2i (blockedB S i j))))) (pM G m S X')) : TC Z (d + 5) mi_X5_isBlocked [tR (some m), tI i, tI j] (pM G m S X) Q := by
  obtain ⟨⟨i38, i39, i40, i41, i42, i43, i44, i45, i46, i47, i55, i60⟩, irow, iwait, igrp⟩ := id I
  have hr2 := hunted_rng I (i := i) (j := j) (rule := 0) (low := S 0 40)
  refine c_X5_isBlocked hM (mc_hunted hM I hi hj (by decide) (by omega) (r_X5_isBlocked_11 hM ⟨by omega, fun e => ?_, fun e => ⟨by omega, fun e' => ?_, fun e' => ?_⟩⟩))
  · have := q X Xs.rfl'
    simpa [blockedB, e, b2i] using this
  · have := q X Xs.rfl'
    simpa [blockedB, e, e', b2i] using this
  · refine mc_findChain hM I hi hj (by omega) (W i j _ (hunted_none I e)) (fun X1 hX1 hR1 => r_X5_isBlocked_32 hM ?_)
    have := q X1 hX1
    cases hch : chain S i j (S 0 40) with
    | none => exact ⟨by decide, fun h => absurd rfl h, fun _ => by simpa [blockedB, e, e', hch, b2i] using this⟩
    | some c => exact show inR 1 ∧ ((¬ (1 : Int) = 0 → _) ∧ ((1 : Int) = 0 → _)) from ⟨by decide, fun _ => by simpa [blockedB, e, e', hch, b2i] using this, fun h => absurd h (by decide)⟩
