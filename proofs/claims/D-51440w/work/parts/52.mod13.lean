/-! THE MODEL'S METHODS, 13: the reader of texts -/
def RX (B : Nat → Int) (n : Nat) (X : St) : Prop := X 32 = B ∧ X 0 33 = (n : Int) ∧ n ≤ 600 ∧ ∀ i, -128 ≤ B i ∧ B i ≤ 127
/-- the scratch of reading may differ -/
def Xd (X X' : St) : Prop := ∀ f c : Nat, f ≠ 70 → f ≠ 71 → f ≠ 76 → f ≠ 82 → (f ≠ 0 ∨ c < 72 ∨ 81 < c) → X' f c = X f c
theorem Xd.rf {X : St} : Xd X X := fun _ _ _ _ _ _ _ => rfl
theorem Xd.trans {A B C : St} (h : Xd A B) (k : Xd B C) : Xd A C := fun f c h1 h2 h3 h4 h5 => (k f c h1 h2 h3 h4 h5).trans (h f c h1 h2 h3 h4 h5)
theorem Xd.up {X Y : St} (h : Xd X Y) {c : Nat} {v : Int} (hc : 72 ≤ c ∧ c ≤ 81) : Xd X (up2 Y 0 c v) := fun f' c' h1 h2 h3 h4 h5 => (up2_ne (by omega)).trans (h f' c' h1 h2 h3 h4 h5)
theorem Xd.u82 {X Y : St} (h : Xd X Y) {c : Nat} {v : Int} : Xd X (up2 Y 82 c v) := fun f' c' h1 h2 h3 h4 h5 => (up2_ne (Or.inl h4)).trans (h f' c' h1 h2 h3 h4 h5)
theorem Xw.d {X X' : St} (h : Xw X X') : Xd X X' := fun f c h1 h2 h3 _ h5 => h f c h1 h2 h3 (by omega)
theorem Xs.d {X X' : St} (h : Xs X X') : Xd X X' := h.w.d
theorem RX.d {B : Nat → Int} {n : Nat} {X X' : St} (h : RX B n X) (k : Xd X X') : RX B n X' := by
  obtain ⟨h1, h2, h3, h4⟩ := h
  refine ⟨?_, (k 0 33 (by decide) (by decide) (by decide) (by decide) (by decide)).trans h2, h3, h4⟩
  rw [← h1]
  funext c
  exact k 32 c (by decide) (by decide) (by decide) (by decide) (Or.inl (by decide))
/-- the scratch of tokens may differ -/
def Xz (X X' : St) : Prop := ∀ f c : Nat, f ≠ 70 → f ≠ 71 → f ≠ 76 → (f ≠ 0 ∨ c < 72 ∨ 81 < c) → X' f c = X f c
theorem Xz.rf {X : St} : Xz X X := fun _ _ _ _ _ _ => rfl
theorem Xz.up {X Y : St} (h : Xz X Y) {c : Nat} {v : Int} (hc : 72 ≤ c ∧ c ≤ 81) : Xz X (up2 Y 0 c v) := fun f' c' h1 h2 h3 h5 => (up2_ne (by omega)).trans (h f' c' h1 h2 h3 h5)
theorem Xz.d {X X' : St} (h : Xz X X') : Xd X X' := fun f c h1 h2 h3 _ h5 => h f c h1 h2 h3 h5
theorem RX.z {B : Nat → Int} {n : Nat} {X X' : St} (h : RX B n X) (k : Xz X X') : RX B n X' := h.d k.d
/-- what a token leaves -/
def Tk (B : Nat → Int) (n k : Nat) (X : St) : Prop := X 0 77 = (tE B n k : Int) ∧ X 0 78 = (tS B n k : Int) ∧ X 0 79 = tK B n k ∧ X 0 80 = tkL B n k ∧ X 0 81 = tV B n k
theorem mc_isLower {Z : ZT} {d : Nat} {G : GH} {Q : TR → GH → Prop} {m : Nat} {S X : St} {x : Int} (hM : MOK G m) (hx : inR x) (q : Q (.inl (some (tI (b2i (isLow x))))) (pM G m S X)) : TC Z (d + 1) mi_X5_isLower [tR (some m), tI x] (pM G m S X) Q := by
  unfold isLow at q
  refine c_X5_isLower hM ⟨hx, fun h => ?_, fun h => ⟨fun h2 => ?_, fun h2 => ?_⟩⟩
  · rw [decide_eq_false (by omega)] at q; exact q
  · rw [decide_eq_false (by omega)] at q; exact q
  · rw [decide_eq_true (by omega)] at q; exact q
theorem mc_isDigit {Z : ZT} {d : Nat} {G : GH} {Q : TR → GH → Prop} {m : Nat} {S X : St} {x : Int} (hM : MOK G m) (hx : inR x) (q : Q (.inl (some (tI (b2i (isDig x))))) (pM G m S X)) : TC Z (d + 1) mi_X5_isDigit [tR (some m), tI x] (pM G m S X) Q := by
  unfold isDig at q
  refine c_X5_isDigit hM ⟨hx, fun h => ?_, fun h => ⟨fun h2 => ?_, fun h2 => ?_⟩⟩
  · rw [decide_eq_false (by omega)] at q; exact q
  · rw [decide_eq_false (by omega)] at q; exact q
  · rw [decide_eq_true (by omega)] at q; exact q
theorem mc_tokenZ {Z : ZT} {d : Nat} {G : GH} {Q : TR → GH → Prop} {m : Nat} {S X : St} {B : Nat → Int} {n k : Nat} (hM : MOK G m) (R : RX B n X) (h77 : X 0 77 = (k : Int)) (hk : k ≤ n) (q : ∀ X', Xz X X' → Tk B n k X' → Q (.inl none) (pM G m S X')) : TC Z (d + 2) mi_X5_token [tR (some m)] (pM G m S X) Q := by
  obtain ⟨s, hs⟩ : ∃ s, s = tS B n k := ⟨_, rfl⟩
  have sr := tS_rng (B := B) hk
  rw [← hs] at sr
  have eE : tE B n k = if n ≤ s then s else if isLow (B s) = true then scan isLow B (n - s) s else if isDig (B s) = true then scan isDig B (n - s) s else s + 1 := by unfold tE; rw [← hs]
  have eK : tK B n k = if n ≤ s then 0 else if isLow (B s) = true then 1 else if isDig (B s) = true then 2 else if B s = 59 then 3 else 4 := by unfold tK; rw [← hs]
  have eL : tkL B n k = if tK B n k = 1 then ((tE B n k - s : Nat) : Int) else 0 := by unfold tkL; rw [← hs]
  have eV : tV B n k = if tK B n k = 2 then valL B 99999 (n - s) s 0 else 0 := by unfold tV; rw [← hs]
  unfold Tk at q
  rw [← hs] at q
  have loopW : ∀ (r j : Nat) (X1 : St) (x1 : Int), j + r = n → s ≤ j → Xz X X1 → X1 0 77 = (j : Int) → X1 0 78 = (s : Int) → X1 0 79 = 1 → X1 0 81 = 0 → isLow (B s) = true → s < n → scan isLow B r j = scan isLow B (n - s) s → TW Z mi_X5_token (d + 2) 110 [some (tR (some m)), some (tI x1)] [] (pM G m S X1) Q := by
    intro r
    induction r with
    | zero =>
      intro j X1 x1 hj hsj hX g77 g78 g79 g81 hl hsn he
      have R1 := R.z hX
      obtain ⟨-, g33, gn6, -⟩ := R1
      simp only [scan] at he
      refine r_X5_token_110 hM ⟨by omega, by omega, fun _ => r_X5_token_292 hM (q _ (hX.up (by decide)) ?_), fun h => by omega⟩
      rw [eL, eV, eK, eE, if_neg (by omega), if_pos hl, if_neg (by omega), if_pos hl, if_pos rfl, if_neg (by decide)]
      exact ⟨by rw [up2_ne (Or.inr (by decide))]; omega, by rw [up2_ne (Or.inr (by decide))]; exact g78, by rw [up2_ne (Or.inr (by decide))]; exact g79, by rw [up2_at]; omega, by rw [up2_ne (Or.inr (by decide))]; exact g81⟩
    | succ r ih =>
      intro j X1 x1 hj hsj hX g77 g78 g79 g81 hl hsn he
      obtain ⟨g32, g33, hn6, hb⟩ := R.z hX
      have hbj := hb j
      simp only [scan] at he
      refine r_X5_token_110 hM ⟨by omega, by omega, fun h => by omega, fun _ => ⟨by omega, ?_⟩⟩
      rw [g77, Int.toNat_natCast, g32]
      refine mc_isLower hM (by omega) (r_X5_token_134 hM ?_)
      cases hlj : isLow (B j) with
      | false =>
        rw [hlj, if_neg (by decide)] at he
        refine ⟨by decide, fun _ => r_X5_token_292 hM (q _ (hX.up (by decide)) ?_), fun h => absurd rfl h⟩
        rw [eL, eV, eK, eE, if_neg (by omega), if_pos hl, if_neg (by omega), if_pos hl, if_pos rfl, if_neg (by decide)]
        exact ⟨by rw [up2_ne (Or.inr (by decide))]; omega, by rw [up2_ne (Or.inr (by decide))]; exact g78, by rw [up2_ne (Or.inr (by decide))]; exact g79, by rw [up2_at]; omega, by rw [up2_ne (Or.inr (by decide))]; exact g81⟩
      | true =>
        rw [hlj, if_pos rfl] at he
        refine ⟨by decide, fun h => absurd h (by decide), fun _ => ih (j + 1) _ _ (by omega) (by omega) (hX.up (by decide)) (by rw [up2_at, g77]; rfl) (by rw [up2_ne (Or.inr (by decide))]; exact g78) (by rw [up2_ne (Or.inr (by decide))]; exact g79) (by rw [up2_ne (Or.inr (by decide))]; exact g81) hl hsn he⟩
  have loopD : ∀ (r j : Nat) (v : Int) (X1 : St) (x1 : Int), j + r = n → s ≤ j → Xz X X1 → X1 0 77 = (j : Int) → X1 0 78 = (s : Int) → X1 0 79 = 2 → X1 0 80 = 0 → X1 0 81 = v → 0 ≤ v ∧ v ≤ 99999 → isLow (B s) = false → isDig (B s) = true → s < n → scan isDig B r j = scan isDig B (n - s) s → valL B 99999 r j v = valL B 99999 (n - s) s 0 → TW Z mi_X5_token (d + 2) 179 [some (tR (some m)), some (tI x1)] [] (pM G m S X1) Q := by
    intro r
    have fin : ∀ (j : Nat) (v : Int) (X1 : St) (x1 : Int), s ≤ j → Xz X X1 → X1 0 77 = (j : Int) → X1 0 78 = (s : Int) → X1 0 79 = 2 → X1 0 80 = 0 → X1 0 81 = v → isLow (B s) = false → isDig (B s) = true → s < n → j = scan isDig B (n - s) s → v = valL B 99999 (n - s) s 0 → TW Z mi_X5_token (d + 2) 292 [some (tR (some m)), some (tI x1)] [] (pM G m S X1) Q := by
      intro j v X1 x1 hsj hX g77 g78 g79 g80 g81 hl hd hsn he hv
      refine r_X5_token_292 hM (q _ hX ?_)
      rw [eL, eV, eK, eE, if_neg (by omega), if_neg (by rw [hl]; decide), if_pos hd, if_neg (by omega), if_neg (by rw [hl]; decide), if_pos hd, if_neg (by decide), if_pos rfl, ← he, ← hv]
      exact ⟨g77, g78, g79, g80, g81⟩
    induction r with
    | zero =>
      intro j v X1 x1 hj hsj hX g77 g78 g79 g80 g81 hv hl hd hsn he hvv
      obtain ⟨-, g33, gn6, -⟩ := R.z hX
      simp only [scan, valL] at he hvv
      exact r_X5_token_179 hM ⟨by omega, by omega, fun _ => fin j v X1 x1 hsj hX g77 g78 g79 g80 g81 hl hd hsn he hvv, fun h => by omega⟩
    | succ r ih =>
      intro j v X1 x1 hj hsj hX g77 g78 g79 g80 g81 hv hl hd hsn he hvv
      obtain ⟨g32, g33, hn6, hb⟩ := R.z hX
      have hbj := hb j
      simp only [scan, valL] at he hvv
      refine r_X5_token_179 hM ⟨by omega, by omega, fun h => by omega, fun _ => ⟨by omega, ?_⟩⟩
      rw [g77, Int.toNat_natCast, g32]
      refine mc_isDigit hM (by omega) (r_X5_token_203 hM ?_)
      rw [g77, Int.toNat_natCast, g32, g81]
      cases hlj : isDig (B j) with
      | false =>
        rw [hlj, if_neg (by decide)] at he hvv
        exact ⟨by decide, fun _ => fin j v X1 x1 hsj hX g77 g78 g79 g80 g81 hl hd hsn he hvv, fun h => absurd rfl h⟩
      | true =>
        rw [hlj, if_pos rfl] at he hvv
        have hdj : 48 ≤ B j ∧ B j ≤ 57 := by unfold isDig at hlj; simpa using hlj
        refine ⟨by decide, fun h => absurd h (by decide), fun _ => ⟨by omega, by omega, fun h => ?_, fun h => ?_⟩⟩
        · rw [if_pos h] at hvv
          exact ih (j + 1) _ _ _ (by omega) (by omega) (((hX.up (by decide)).up (by decide)).up (by decide)) (by rw [up2_at]; rfl) (by rw [up2_ne (Or.inr (by decide)), up2_ne (Or.inr (by decide)), up2_ne (Or.inr (by decide))]; exact g78) (by rw [up2_ne (Or.inr (by decide)), up2_ne (Or.inr (by decide)), up2_ne (Or.inr (by decide))]; exact g79) (by rw [up2_ne (Or.inr (by decide)), up2_ne (Or.inr (by decide)), up2_ne (Or.inr (by decide))]; exact g80) (by rw [up2_ne (Or.inr (by decide)), up2_at]) (by omega) hl hd hsn he hvv
        · rw [if_neg h] at hvv
          exact ih (j + 1) _ _ _ (by omega) (by omega) (((hX.up (by decide)).up (by decide)).up (by decide)) (by rw [up2_at]; rfl) (by rw [up2_ne (Or.inr (by decide)), up2_ne (Or.inr (by decide)), up2_ne (Or.inr (by decide))]; exact g78) (by rw [up2_ne (Or.inr (by decide)), up2_ne (Or.inr (by decide)), up2_ne (Or.inr (by decide))]; exact g79) (by rw [up2_ne (Or.inr (by decide)), up2_ne (Or.inr (by decide)), up2_ne (Or.inr (by decide))]; exact g80) (by rw [up2_ne (Or.inr (by decide)), up2_at]) (by omega) hl hd hsn he hvv
  -- behind the blanks
  have atEnd : ∀ X1, Xz X X1 → X1 0 77 = (s : Int) → n ≤ s → Q (.inl none) (pM G m S (up2 (up2 (up2 (up2 X1 0 78 (X1 0 77)) 0 80 0) 0 81 0) 0 79 0)) := by
    intro X1 hX g77 hn
    refine q _ ((((hX.up (by decide)).up (by decide)).up (by decide)).up (by decide)) ?_
    rw [eL, eV, eK, eE, if_pos hn, if_pos hn, if_neg (by decide), if_neg (by decide), g77]
    exact ⟨by rw [up2_ne (Or.inr (by decide)), up2_ne (Or.inr (by decide)), up2_ne (Or.inr (by decide)), up2_ne (Or.inr (by decide))]; exact g77, by rw [up2_ne (Or.inr (by decide)), up2_ne (Or.inr (by decide)), up2_ne (Or.inr (by decide)), up2_at], up2_at, by rw [up2_ne (Or.inr (by decide)), up2_ne (Or.inr (by decide)), up2_at], by rw [up2_ne (Or.inr (by decide)), up2_at]⟩
  have atTok : ∀ X1, Xz X X1 → X1 0 77 = (s : Int) → s < n → TC Z (d + 1) mi_X5_isLower [tR (some m), tI (B s)] (pM G m S (up2 (up2 (up2 X1 0 78 (X1 0 77)) 0 80 0) 0 81 0)) (KQ Z mi_X5_token (d + 2) 99 102 [some (tR (some m)), some (tI (B s))] [] Q) := by
    intro X1 hX g77 hn
    obtain ⟨g32, g33, hn6, hb⟩ := R.z hX
    have hbs := hb s
    have hX2 : Xz X (up2 (up2 (up2 X1 0 78 (X1 0 77)) 0 80 0) 0 81 0) := ((hX.up (by decide)).up (by decide)).up (by decide)
    have e77 : up2 (up2 (up2 X1 0 78 (X1 0 77)) 0 80 0) 0 81 0 0 77 = (s : Int) := by rw [up2_ne (Or.inr (by decide)), up2_ne (Or.inr (by decide)), up2_ne (Or.inr (by decide))]; exact g77
    have e78 : up2 (up2 (up2 X1 0 78 (X1 0 77)) 0 80 0) 0 81 0 0 78 = (s : Int) := by rw [up2_ne (Or.inr (by decide)), up2_ne (Or.inr (by decide)), up2_at]; exact g77
    have e80 : up2 (up2 (up2 X1 0 78 (X1 0 77)) 0 80 0) 0 81 0 0 80 = 0 := by rw [up2_ne (Or.inr (by decide)), up2_at]
    have e81 : up2 (up2 (up2 X1 0 78 (X1 0 77)) 0 80 0) 0 81 0 0 81 = 0 := up2_at
    generalize up2 (up2 (up2 X1 0 78 (X1 0 77)) 0 80 0) 0 81 0 = X2 at *
    refine mc_isLower hM (by omega) (r_X5_token_102 hM ?_)
    cases hl : isLow (B s) with
    | true => exact ⟨by decide, fun h => absurd h (by decide), fun _ => loopW (n - s) s _ _ (by omega) (Nat.le_refl _) (hX2.up (by decide)) (by rw [up2_ne (Or.inr (by decide))]; exact e77) (by rw [up2_ne (Or.inr (by decide))]; exact e78) up2_at (by rw [up2_ne (Or.inr (by decide))]; exact e81) hl hn rfl⟩
    | false =>
      refine ⟨by decide, fun _ => mc_isDigit hM (by omega) (r_X5_token_171 hM ?_), fun h => absurd rfl h⟩
      cases hd : isDig (B s) with
      | true => exact ⟨by decide, fun h => absurd h (by decide), fun _ => loopD (n - s) s 0 _ _ (by omega) (Nat.le_refl _) (hX2.up (by decide)) (by rw [up2_ne (Or.inr (by decide))]; exact e77) (by rw [up2_ne (Or.inr (by decide))]; exact e78) up2_at (by rw [up2_ne (Or.inr (by decide))]; exact e80) (by rw [up2_ne (Or.inr (by decide))]; exact e81) (by decide) hl hd hn rfl rfl⟩
      | false =>
        have fin : ∀ v : Int, v ≠ 1 → v ≠ 2 → v = (if B s = 59 then 3 else 4) → TW Z mi_X5_token (d + 2) 292 [some (tR (some m)), some (tI (B s))] [] (pM G m S (up2 (up2 X2 0 79 v) 0 77 (X2 0 77 + 1))) Q := by
          intro v h1 h2 hv
          refine r_X5_token_292 hM (q _ ((hX2.up (by decide)).up (by decide)) ?_)
          rw [eL, eV, eK, eE, if_neg (by omega), if_neg (by rw [hl]; decide), if_neg (by rw [hd]; decide), if_neg (by omega), if_neg (by rw [hl]; decide), if_neg (by rw [hd]; decide), ← hv, if_neg h1, if_neg h2]
          exact ⟨by rw [up2_at, e77]; rfl, by rw [up2_ne (Or.inr (by decide)), up2_ne (Or.inr (by decide))]; exact e78, by rw [up2_ne (Or.inr (by decide)), up2_at], by rw [up2_ne (Or.inr (by decide)), up2_ne (Or.inr (by decide))]; exact e80, by rw [up2_ne (Or.inr (by decide)), up2_ne (Or.inr (by decide))]; exact e81⟩
        exact ⟨by decide, fun _ => ⟨by omega, fun h => fin 4 (by decide) (by decide) (by rw [if_neg h]), fun h => fin 3 (by decide) (by decide) (by rw [if_pos h])⟩, fun h => absurd rfl h⟩
  have body : ∀ (r j : Nat) (X1 : St), j + r = n → Xz X X1 → X1 0 77 = (j : Int) → scan isBlk B r j = s → TW Z mi_X5_token (d + 2) 0 [some (tR (some m)), none] [] (pM G m S X1) Q := by
    intro r
    induction r with
    | zero =>
      intro j X1 hj hX g77 he
      obtain ⟨g32, g33, hn6, hb⟩ := R.z hX
      have he : j = s := he
      subst he
      exact r_X5_token_0 hM ⟨by omega, by omega, fun _ => ⟨fun h => by omega, fun _ => atEnd X1 hX g77 (by omega)⟩, fun h => by omega⟩
    | succ r ih =>
      intro j X1 hj hX g77 he
      obtain ⟨g32, g33, hn6, hb⟩ := R.z hX
      have hbj := hb j
      simp only [scan] at he
      refine r_X5_token_0 hM ⟨by omega, by omega, fun h => by omega, fun _ => ⟨by omega, ?_⟩⟩
      have eX : X1 32 (Int.toNat (X1 0 77)) = B j := by rw [g77, Int.toNat_natCast, g32]
      rw [eX]
      refine ⟨by omega, fun h => ?_, fun h => ⟨fun h2 => ⟨fun h3 => ?_, fun h3 => by omega⟩, fun h2 => ?_⟩⟩
      · rw [if_pos (by unfold isBlk; simp [h])] at he
        exact ih (j + 1) _ (by omega) (hX.up (by decide)) (by rw [up2_at, g77]; rfl) he
      · rw [if_neg (by unfold isBlk; simp [h, h2])] at he
        subst he
        exact atTok X1 hX g77 (by omega)
      · rw [if_pos (by unfold isBlk; simp [h2])] at he
        exact ih (j + 1) _ (by omega) (hX.up (by decide)) (by rw [up2_at, g77]; rfl) he
  have go := body (n - k) k X (by omega) Xz.rf h77 (by rw [hs]; rfl)
  obtain ⟨g32, g33, hn6, hb⟩ := id R
  by_cases hkn : k = n
  · have hsn : n ≤ s := by omega
    exact c_X5_token hM ⟨by omega, by omega, fun _ => ⟨fun h => by omega, fun _ => atEnd X Xz.rf (by omega) hsn⟩, fun h => by omega⟩
  · have hbk := hb k
    have hsc : scan isBlk B (n - k) k = s := hs.symm
    obtain ⟨r, hr⟩ : ∃ r, n - k = r + 1 := ⟨n - k - 1, by omega⟩
    rw [hr] at hsc
    simp only [scan] at hsc
    have eX : X 32 (Int.toNat (X 0 77)) = B k := by rw [h77, Int.toNat_natCast, g32]
    refine c_X5_token hM ⟨by omega, by omega, fun h => by omega, fun _ => ⟨by omega, ?_⟩⟩
    rw [eX]
    refine ⟨by omega, fun h => ?_, fun h => ⟨fun h2 => ⟨fun h3 => ?_, fun h3 => by omega⟩, fun h2 => ?_⟩⟩
    · rw [if_pos (by unfold isBlk; simp [h])] at hsc
      exact body r (k + 1) _ (by omega) (Xz.rf.up (by decide)) (by rw [up2_at, h77]; rfl) hsc
    · rw [if_neg (by unfold isBlk; simp [h, h2])] at hsc
      subst hsc
      exact atTok X Xz.rf h77 (by omega)
    · rw [if_pos (by unfold isBlk; simp [h2])] at hsc
      exact body r (k + 1) _ (by omega) (Xz.rf.up (by decide)) (by rw [up2_at, h77]; rfl) hsc
theorem mc_token {Z : ZT} {d : Nat} {G : GH} {Q : TR → GH → Prop} {m : Nat} {S X : St} {B : Nat → Int} {n k : Nat} (hM : MOK G m) (R : RX B n X) (h77 : X 0 77 = (k : Int)) (hk : k ≤ n) (q : ∀ X', Xd X X' → Tk B n k X' → Q (.inl none) (pM G m S X')) : TC Z (d + 2) mi_X5_token [tR (some m)] (pM G m S X) Q :=
  mc_tokenZ hM R h77 hk (fun X' h => q X' h.d)
