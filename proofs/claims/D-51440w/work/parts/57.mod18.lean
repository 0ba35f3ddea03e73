/-! THE MODEL'S METHODS, 18: load, run -/
theorem grps_ok {B : Nat → Int} {n : Nat} : ∀ (r : Nat) (S : St) (k : Nat) (a : St × Nat), Ok S → S 0 60 + r = 5 → k ≤ n → grpsR B n r S k = .inr a → Ok a.1 ∧ a.1 0 44 = S 0 44 ∧ a.2 ≤ n := by
  intro r
  induction r with
  | zero => intro S k a V h5 hk h; cases h; exact ⟨V, rfl, hk⟩
  | succ r ih =>
    intro S k a V h5 hk h
    have e1 := tE_rng (B := B) hk
    simp only [grpsR] at h
    split at h
    · split at h
      · cases h
      · rename_i h4
        cases h1 : groupR B n S (tE B n k) with
        | inl e => rw [h1] at h; cases h
        | inr b =>
          rw [h1] at h
          dsimp only at h
          obtain ⟨b1, b2, b3, b4, b5⟩ := group_ok V h4 e1.2 h1
          obtain ⟨c1, c2, c3⟩ := ih b.1 b.2 a b1 (by omega) b5 h
          exact ⟨c1, c2.trans b2, c3⟩
    · cases h; exact ⟨V, rfl, hk⟩
theorem head_ok {B : Nat → Int} {n : Nat} {S : St} {a : St × Nat} (h : headR B n S = .inr a) : Ok a.1 ∧ a.1 0 44 = 0 ∧ a.2 ≤ n := by
  have e0 := tE_rng (B := B) (n := n) (k := 0) (Nat.zero_le _)
  unfold headR at h
  split at h
  · cases h1 : numR B n (tE B n 0) 1 6 with
    | inl e => rw [h1] at h; cases h
    | inr s =>
      rw [h1] at h; dsimp only at h
      have v1 := num_in h1
      have ev1 : s.2 = tE B n (tE B n 0) := by rw [v1.2.2.1]
      have e1 := tE_rng (B := B) e0.2
      cases h2 : numR B n s.2 1 6 with
      | inl e => rw [h2] at h; cases h
      | inr l =>
        rw [h2] at h; dsimp only at h
        have v2 := num_in h2
        have ev2 : l.2 = tE B n s.2 := by rw [v2.2.2.1]
        have e2 := tE_rng (B := B) (n := n) (k := s.2) (by omega)
        cases h3 : numR B n l.2 1 9 with
        | inl e => rw [h3] at h; cases h
        | inr mm =>
          rw [h3] at h; dsimp only at h
          have v3 := num_in h3
          have ev3 : mm.2 = tE B n l.2 := by rw [v3.2.2.1]
          have e3 := tE_rng (B := B) (n := n) (k := l.2) (by omega)
          cases h4 : semR B n mm.2 with
          | inl e => rw [h4] at h; cases h
          | inr p =>
            rw [h4] at h; dsimp only at h
            have s4 := (sem_in h4).1
            have e4 := tE_rng (B := B) (n := n) (k := mm.2) (by omega)
            obtain ⟨c38, c39, c40, c41, c42, c43, c44, c45, c46, c47, c55, c60⟩ := clear_0 (S := S) (s := s.1) (l := l.1) (mm := mm.1)
            obtain ⟨g1, g2, g3⟩ := grps_ok 5 (clearS S s.1 l.1 mm.1) p a (Ok.clr ⟨v1.1, v1.2.1⟩ ⟨v2.1, v2.2.1⟩ ⟨v3.1, v3.2.1⟩) (by rw [c60]; rfl) (by omega) h
            exact ⟨g1, g2.trans c44, g3⟩
  · cases h
theorem mc_readsHead {Z : ZT} {d : Nat} {G : GH} {Q : TR → GH → Prop} {m : Nat} {S X : St} {B : Nat → Int} {n : Nat} (hM : MOK G m) (R : RX B n X) (h77 : X 0 77 = 0) (qe : ∀ e S' X', headR B n S = .inl e → Xe X X' e → Q (.inl (some (tI 0))) (pM G m S' X')) (qg : ∀ a, headR B n S = .inr a → ∀ X', Xd X X' → Tk B n a.2 X' → Q (.inl (some (tI 1))) (pM G m a.1 X')) : TC Z (d + 5) mi_X5_readsHead [tR (some m)] (pM G m S X) Q := by
  have e0 := tE_rng (B := B) (n := n) (k := 0) (Nat.zero_le _)
  have hn6 := R.2.2.1
  unfold headR at qe qg
  refine c_X5_readsHead hM (mc_token (k := 0) hM R (by rw [h77]; rfl) (Nat.zero_le _) (fun X1 hX1 hT1 => r_X5_readsHead_4 hM (mc_spelled hM (R.d hX1) (Nat.zero_le _) hT1 (r_X5_readsHead_8 hM ?_))))
  have sk := spellK_rng (B := B) (n := n) (k := 0)
  have wi := word_iff (k := 0) (B := B) (n := n) (w := wExch) (v := 197677594853) (by decide) (by decide) (by decide) (by decide)
  refine ⟨by omega, lsgn_rng, fun h => ?_, fun h => ?_⟩
  · rw [if_pos (wi.mp h)] at qe qg
    refine mc_readsNumber hM (R.d hX1) hT1.1 e0.2 (by decide) (by decide) (fun e X2 he hX2 => r_X5_readsHead_28 hM ⟨by decide, fun h => absurd rfl h, fun _ => qe e S X2 (by rw [he]) (hX1.e hX2)⟩) (fun he X2 hX2 hT2 => r_X5_readsHead_28 hM ⟨by decide, fun _ => ?_, fun h => absurd h (by decide)⟩)
    have v1 := num_in he
    rw [he] at qe qg
    dsimp only at qe qg v1
    have e1 := tE_rng (B := B) e0.2
    rw [hT2.2.2.2.2]
    refine mc_readsNumber hM (R.d (hX1.trans hX2)) hT2.1 e1.2 (by decide) (by decide) (fun e X3 he2 hX3 => r_X5_readsHead_45 hM ⟨by decide, fun h => absurd rfl h, fun _ => qe e S X3 (by rw [he2]) ((hX1.trans hX2).e hX3)⟩) (fun he2 X3 hX3 hT3 => r_X5_readsHead_45 hM ⟨by decide, fun _ => ?_, fun h => absurd h (by decide)⟩)
    have v2 := num_in he2
    rw [he2] at qe qg
    dsimp only at qe qg v2
    have e2 := tE_rng (B := B) e1.2
    rw [hT3.2.2.2.2]
    have hX13 := (hX1.trans hX2).trans hX3
    refine mc_readsNumber hM (R.d hX13) hT3.1 e2.2 (by decide) (by decide) (fun e X4 he3 hX4 => r_X5_readsHead_62 hM ⟨by decide, fun h => absurd rfl h, fun _ => qe e S X4 (by rw [he3]) (hX13.e hX4)⟩) (fun he3 X4 hX4 hT4 => r_X5_readsHead_62 hM ⟨by decide, fun _ => ?_, fun h => absurd h (by decide)⟩)
    have v3 := num_in he3
    rw [he3] at qe qg
    dsimp only at qe qg v3
    have e3 := tE_rng (B := B) e2.2
    rw [hT4.2.2.2.2]
    have hX14 := hX13.trans hX4
    refine mc_readsSemicolon hM (R.d hX14) hT4.1 e3.2 (fun e X5 he4 hX5 => r_X5_readsHead_76 hM ⟨by decide, fun h => absurd rfl h, fun _ => qe e S X5 (by rw [he4]) (hX14.e hX5)⟩) (fun he4 X5 hX5 h5 => r_X5_readsHead_76 hM ⟨by decide, fun _ => ?_, fun h => absurd h (by decide)⟩)
    rw [he4] at qe qg
    dsimp only at qe qg
    have e4 := tE_rng (B := B) e3.2
    have hX15 := hX14.trans hX5
    refine mc_clearAll (B := B) (n := n) hM (r_X5_readsHead_88 hM (mc_token hM (R.d hX15) h5 e4.2 (fun X6 hX6 hT6 => r_X5_readsHead_92 hM ?_)))
    obtain ⟨c38, c39, c40, c41, c42, c43, c44, c45, c46, c47, c55, c60⟩ := clear_0 (S := S) (s := tV B n (tE B n 0)) (l := tV B n (tE B n (tE B n 0))) (mm := tV B n (tE B n (tE B n (tE B n 0))))
    have loop : ∀ (r k : Nat) (S1 X7 : St) (x1 x2 x3 : Int), Ok S1 → S1 0 60 + r = 5 → S1 0 60 ≤ 4 → k ≤ n → Xd X X7 → Tk B n k X7 → (∀ e S' X', grpsR B n r S1 k = .inl e → Xe X X' e → Q (.inl (some (tI 0))) (pM G m S' X')) → (∀ a, grpsR B n r S1 k = .inr a → ∀ X', Xd X X' → Tk B n a.2 X' → Q (.inl (some (tI 1))) (pM G m a.1 X')) →
        TC Z (d + 4) mi_X5_spelled [tR (some m)] (pM G m S1 X7) (KQ Z mi_X5_readsHead (d + 5) 93 96 [some (tR (some m)), some (tI x1), some (tI x2), some (tI x3)] [] Q) := by
      intro r
      induction r with
      | zero => intro k S1 X7 x1 x2 x3 V1 h5 h4; omega
      | succ r ih =>
        intro k S1 X7 x1 x2 x3 V1 h5 h4 hk hX7 hT7 qe qg
        have sk := spellK_rng (B := B) (n := n) (k := k)
        have wi := word_iff (k := k) (B := B) (n := n) (w := wGroup) (v := 7945904) (by decide) (by decide) (by decide) (by decide)
        have ek := tE_rng (B := B) hk
        have i60 := V1.1.1.1.2.2.2.2.2.2.2.2.2.2.2
        simp only [grpsR] at qe qg
        refine mc_spelled hM (R.d hX7) hk hT7 (r_X5_readsHead_96 hM ⟨by omega, lsgn_rng, fun h => ?_, fun h => ⟨by omega, fun h6 => ?_, fun h6 => ?_⟩⟩)
        · rw [if_neg (fun z => h (wi.mpr z))] at qg
          exact qg _ rfl X7 hX7 hT7
        · rw [if_pos (wi.mp h), if_neg h6] at qe qg
          refine mc_readsGroup hM V1 h6 (R.d hX7) hT7.1 ek.2 (fun e S' X8 he8 hX8 => r_X5_readsHead_121 hM ⟨by decide, fun h => absurd rfl h, fun _ => qe e S' X8 (by rw [he8]) (hX7.e hX8)⟩) (fun a ha X8 hX8 h8 => r_X5_readsHead_121 hM ⟨by decide, fun _ => ?_, fun h => absurd h (by decide)⟩)
          obtain ⟨b1, b2, b3, b4, b5⟩ := group_ok V1 h6 ek.2 ha
          rw [ha] at qe qg
          dsimp only at qe qg
          exact mc_token hM (R.d (hX7.trans hX8)) h8 b5 (fun X9 hX9 hT9 => r_X5_readsHead_130 hM (r_X5_readsHead_92 hM (ih a.2 a.1 X9 x1 x2 x3 b1 (by omega) (by omega) b5 ((hX7.trans hX8).trans hX9) hT9 qe qg)))
        · rw [if_pos (wi.mp h), if_pos h6] at qe
          exact mc_blames hM (fun X8 hX8 => r_X5_readsHead_116 hM ⟨Or.inl rfl, qe _ S1 X8 rfl (hX7.e (by rw [hT7.2.1] at hX8; exact hX8))⟩)
    exact loop 5 _ _ X6 _ _ _ (Ok.clr ⟨v1.1, v1.2.1⟩ ⟨v2.1, v2.2.1⟩ ⟨v3.1, v3.2.1⟩) (by rw [c60]; rfl) (by rw [c60]; decide) e4.2 (hX15.trans hX6) hT6 qe qg
  · rw [if_neg (fun z => h (wi.mpr z))] at qe
    exact mc_blames hM (fun X2 hX2 => r_X5_readsHead_20 hM ⟨Or.inl rfl, qe _ S X2 rfl (hX1.e (by rw [hT1.2.1] at hX2; exact hX2))⟩)
/-- what a text that fails leaves -/
def TextE (X X' : St) (e : Int × Int) : Prop := X' 0 31 = 0 ∧ X' 0 33 = 0 ∧ X' 0 34 = e.1 ∧ X' 0 35 = e.2 ∧ ∀ f c : Nat, f ≠ 70 → f ≠ 71 → f ≠ 76 → f ≠ 82 → (f ≠ 66 ∨ c < 3200 ∨ 3520 ≤ c) → (f ≠ 0 ∨ (c ≠ 31 ∧ c ≠ 33 ∧ c ≠ 34 ∧ c ≠ 35 ∧ (c < 72 ∨ 81 < c) ∧ c ≠ 83)) → X' f c = X f c
/-- what a load leaves -/
def LoadG (X X' : St) : Prop := X' 0 31 = 0 ∧ X' 0 33 = 0 ∧ X' 0 34 = 0 ∧ X' 0 35 = -1 ∧ X' 0 68 = 0 ∧ ∀ f c : Nat, f ≠ 70 → f ≠ 71 → f ≠ 76 → f ≠ 82 → (f ≠ 66 ∨ c < 3200 ∨ 3520 ≤ c) → (f ≠ 0 ∨ (c ≠ 31 ∧ c ≠ 33 ∧ c ≠ 34 ∧ c ≠ 35 ∧ c ≠ 68 ∧ (c < 72 ∨ 81 < c) ∧ c ≠ 83)) → X' f c = X f c
/-- where reading starts -/
def begX (S X : St) : St := up2 (up2 (up2 (up2 (imgP 10 261 S (up2 X 0 31 0)) 0 83 (320 * ((10 : Nat) : Int) + 261)) 0 34 0) 0 35 (-1)) 0 77 0
theorem beg_off {S X : St} {f c : Nat} (h : f ≠ 66 ∨ c < 3200 ∨ 3520 ≤ c) (h2 : f ≠ 0 ∨ (c ≠ 31 ∧ c ≠ 34 ∧ c ≠ 35 ∧ c ≠ 77 ∧ c ≠ 83)) : begX S X f c = X f c := by
  unfold begX
  rw [up2_ne (by omega), up2_ne (by omega), up2_ne (by omega), up2_ne (by omega), imgP_off (by omega) (by decide), up2_ne (by omega)]
theorem beg_rx {S X : St} {B : Nat → Int} {n : Nat} (R : RX B n X) : RX B n (begX S X) := by
  obtain ⟨h1, h2, h3, h4⟩ := R
  refine ⟨?_, (beg_off (Or.inl (by decide)) (by decide)).trans h2, h3, h4⟩
  rw [← h1]
  funext c
  exact beg_off (Or.inl (by decide)) (Or.inl (by decide))
theorem beg_66 {S X : St} {f c : Nat} (h : iOff f c < 261) : begX S X 66 (3200 + iOff f c) = S f c := by
  unfold begX
  rw [up2_ne (Or.inl (by decide)), up2_ne (Or.inl (by decide)), up2_ne (Or.inl (by decide)), up2_ne (Or.inl (by decide))]
  exact imgP_in (k := 10) h
theorem text_fail {S S2 X X2 : St} {e : Int × Int} (h : Xe (begX S X) X2 e) : Sg S (takP 10 261 S2 (up2 X2 0 33 0)) ∧ TextE X (up2 (up2 X2 0 33 0) 0 83 (320 * ((10 : Nat) : Int) + 261)) e := by
  obtain ⟨h1, h2, h3⟩ := h
  refine ⟨fun f c hf => ?_, ?_, ?_, ?_, ?_, fun f c a1 a2 a3 a4 a5 a6 => ?_⟩
  · rw [takP_in hf, up2_ne (Or.inl (by decide)), h3 66 _ (by decide) (by decide) (by decide) (by decide) (Or.inl (by decide))]
    exact beg_66 hf
  · rw [up2_ne (Or.inr (by decide)), up2_ne (Or.inr (by decide)), h3 0 31 (by decide) (by decide) (by decide) (by decide) (by decide)]
    unfold begX
    rw [up2_ne (Or.inr (by decide)), up2_ne (Or.inr (by decide)), up2_ne (Or.inr (by decide)), up2_ne (Or.inr (by decide)), imgP_off (Or.inl (by decide)) (by decide), up2_at]
  · rw [up2_ne (Or.inr (by decide)), up2_at]
  · rw [up2_ne (Or.inr (by decide)), up2_ne (Or.inr (by decide))]; exact h1
  · rw [up2_ne (Or.inr (by decide)), up2_ne (Or.inr (by decide))]; exact h2
  · rw [up2_ne (by omega), up2_ne (by omega), h3 f c a1 a2 a3 a4 (by omega)]
    exact beg_off a5 (by omega)
theorem text_good {S X X2 : St} (h : Xd (begX S X) X2) : X2 0 31 = 0 ∧ X2 0 34 = 0 ∧ X2 0 35 = -1 ∧ (∀ f c, iOff f c < 261 → X2 66 (3200 + iOff f c) = S f c) ∧ ∀ f c : Nat, f ≠ 70 → f ≠ 71 → f ≠ 76 → f ≠ 82 → (f ≠ 66 ∨ c < 3200 ∨ 3520 ≤ c) → (f ≠ 0 ∨ (c ≠ 31 ∧ c ≠ 34 ∧ c ≠ 35 ∧ (c < 72 ∨ 81 < c) ∧ c ≠ 83)) → X2 f c = X f c := by
  refine ⟨?_, ?_, ?_, fun f c hf => ?_, fun f c a1 a2 a3 a4 a5 a6 => ?_⟩
  · rw [h 0 31 (by decide) (by decide) (by decide) (by decide) (by decide)]
    unfold begX
    rw [up2_ne (Or.inr (by decide)), up2_ne (Or.inr (by decide)), up2_ne (Or.inr (by decide)), up2_ne (Or.inr (by decide)), imgP_off (Or.inl (by decide)) (by decide), up2_at]
  · rw [h 0 34 (by decide) (by decide) (by decide) (by decide) (by decide)]
    unfold begX
    rw [up2_ne (Or.inr (by decide)), up2_ne (Or.inr (by decide)), up2_at]
  · rw [h 0 35 (by decide) (by decide) (by decide) (by decide) (by decide)]
    unfold begX
    rw [up2_ne (Or.inr (by decide)), up2_at]
  · rw [h 66 _ (by decide) (by decide) (by decide) (by decide) (Or.inl (by decide))]
    exact beg_66 hf
  · rw [h f c a1 a2 a3 a4 (by omega)]
    exact beg_off a5 (by omega)
theorem mp_load {Z : ZT} {d : Nat} {G : GH} {Q : TR → GH → Prop} {m : Nat} {S X : St} {B : Nat → Int} {n : Nat} (hM : MOK G m) (R : RX B n X) (q1 : ∀ e, wholeR B n S = .inl e → ∀ S' X', Sg S S' → TextE X X' e → Q (.inl (some (tI (-1)))) (pM G m S' X')) (q0 : ∀ T, wholeR B n S = .inr T → Ok T → T 0 44 ≤ 9999 → ∀ X', LoadG X X' → Q (.inl (some (tI (T 0 47)))) (pM G m T X')) : TC Z (d + 11) mi_X5_load [tR (some m)] (pM G m S X) Q := by
  have fail : ∀ (e : Int × Int) (S2 X2 : St), wholeR B n S = .inl e → Xe (begX S X) X2 e → TC Z (d + 10) mi_X5_takeImage [tR (some m), tI 10] (pM G m S2 (up2 X2 0 33 0)) (KQ Z mi_X5_load (d + 11) 48 51 [some (tR (some m)), some (tI 0)] [] Q) := by
    intro e S2 X2 he hX2
    refine mc_takeImage (k := 10) hM (by decide) (r_X5_load_51 hM ?_)
    obtain ⟨t1, t2⟩ := text_fail (S2 := S2) hX2
    exact q1 e he _ _ t1 t2
  refine c_X5_load hM (mc_keepImage (k := 10) hM (by decide) (r_X5_load_11 hM (c_X5_begin hM (r_X5_load_15 hM ?_))))
  have e33 : up2 (up2 (up2 (up2 (imgP 10 261 S (up2 X 0 31 0)) 0 83 (320 * ((10 : Nat) : Int) + 261)) 0 34 0) 0 35 (-1)) 0 77 0 = begX S X := rfl
  rw [e33]
  have e77 : begX S X 0 77 = 0 := by unfold begX; rw [up2_at]
  unfold wholeR at fail q0
  refine mc_readsHead hM (beg_rx R) e77 (fun e S2 X2 he hX2 => r_X5_load_19 hM ⟨by decide, fun _ => fail e S2 X2 (by rw [he]) hX2, fun h => absurd rfl h⟩) (fun a ha X2 hX2 hT2 => r_X5_load_19 hM ⟨by decide, fun h => absurd h (by decide), fun _ => ?_⟩)
  obtain ⟨o1, o2, o3⟩ := head_ok ha
  rw [ha] at fail q0
  dsimp only at fail q0
  refine mc_readsCommands hM o1 (by omega) ((beg_rx R).d hX2) o3 hT2 (fun e S3 X3 he hX3 => r_X5_load_26 hM ⟨by decide, fun _ => fail e S3 X3 (by rw [he]) (hX2.e hX3), fun h => absurd rfl h⟩) (fun b hb hb1 X3 hX3 => r_X5_load_26 hM ⟨by omega, fun h => by omega, fun _ => ?_⟩)
  rw [hb] at q0
  dsimp only at q0
  obtain ⟨c1, c2⟩ := cmds_ok 601 a.1 a.2 0 b o1 (by omega) o3 hb
  obtain ⟨g1, g2, g3, g4, g5⟩ := text_good (hX2.trans hX3)
  refine q0 b.2 rfl c1 c2 _ ⟨?_, ?_, ?_, ?_, up2_at, fun f c a1 a2 a3 a4 a5 a6 => ?_⟩
  · rw [up2_ne (Or.inr (by decide)), up2_ne (Or.inr (by decide))]; exact g1
  · rw [up2_ne (Or.inr (by decide)), up2_at]
  · rw [up2_ne (Or.inr (by decide)), up2_ne (Or.inr (by decide))]; exact g2
  · rw [up2_ne (Or.inr (by decide)), up2_ne (Or.inr (by decide))]; exact g3
  · rw [up2_ne (by omega), up2_ne (by omega)]
    exact g5 f c a1 a2 a3 a4 a5 (by omega)
/-- what a run leaves -/
def RunG (S X X' : St) : Prop := X' 0 31 = 0 ∧ UndoR X' ∧ (X' 0 68).toNat = pushN (X 0 68).toNat ∧ (∀ i, i < (X' 0 68).toNat → Sg (pushF (X 0 68).toNat (stk X) S i) (stk X' i)) ∧ X' 0 33 = 0 ∧ X' 0 34 = 0 ∧ X' 0 35 = -1 ∧
  ∀ f c : Nat, f ≠ 70 → f ≠ 71 → f ≠ 76 → f ≠ 82 → (f ≠ 66 ∨ (2560 ≤ c ∧ c < 3200)) → (f ≠ 0 ∨ (c ≠ 31 ∧ c ≠ 33 ∧ c ≠ 34 ∧ c ≠ 35 ∧ c ≠ 67 ∧ c ≠ 68 ∧ (c < 72 ∨ 81 < c) ∧ c ≠ 83)) → X' f c = X f c
theorem mp_run {Z : ZT} {d : Nat} {G : GH} {Q : TR → GH → Prop} {m : Nat} {S X : St} {B : Nat → Int} {n : Nat} (hM : MOK G m) (V : Ok S) (ht : S 0 44 ≤ 9999) (U : UndoR X) (R : RX B n X) (q1 : ∀ e, onR B n S = .inl e → ∀ S' X', Sg S S' → TextE X X' e → Q (.inl (some (tI (-1)))) (pM G m S' X')) (q0 : ∀ a, onR B n S = .inr a → Ok a.2 → a.2 0 44 ≤ 9999 → ∀ X', RunG S X X' → Q (.inl (some (tI a.1))) (pM G m a.2 X')) : TC Z (d + 11) mi_X5_run [tR (some m)] (pM G m S X) Q := by
  refine c_X5_run hM (mc_keepImage (k := 10) hM (by decide) (r_X5_run_11 hM (c_X5_begin hM (r_X5_run_15 hM ?_))))
  have e33 : up2 (up2 (up2 (up2 (imgP 10 261 S (up2 X 0 31 0)) 0 83 (320 * ((10 : Nat) : Int) + 261)) 0 34 0) 0 35 (-1)) 0 77 0 = begX S X := rfl
  rw [e33]
  have e77 : begX S X 0 77 = 0 := by unfold begX; rw [up2_at]
  unfold onR at q1 q0
  refine mc_token (k := 0) hM (beg_rx R) (by rw [e77]; rfl) (Nat.zero_le _) (fun X1 hX1 hT1 => r_X5_run_19 hM (mc_readsCommands hM V ht ((beg_rx R).d hX1) (Nat.zero_le _) hT1 (fun e S2 X2 he hX2 => r_X5_run_23 hM ⟨by decide, fun h => absurd rfl h, fun _ => ?_⟩) (fun b hb hb1 X2 hX2 => r_X5_run_23 hM ⟨by omega, fun _ => ?_, fun h => by omega⟩)))
  · refine mc_takeImage (k := 10) hM (by decide) (r_X5_run_40 hM ?_)
    obtain ⟨t1, t2⟩ := text_fail (S2 := S2) (hX1.e hX2)
    exact q1 e he _ _ t1 t2
  · obtain ⟨c1, c2⟩ := cmds_ok 601 S 0 0 b V ht (Nat.zero_le _) hb
    obtain ⟨g1, g2, g3, g4, g5⟩ := text_good (hX1.trans hX2)
    have k67 : up2 X2 0 33 0 0 67 = X 0 67 := (up2_ne (Or.inr (by decide))).trans (g5 0 67 (by decide) (by decide) (by decide) (by decide) (Or.inl (by decide)) (by decide))
    have k68 : up2 X2 0 33 0 0 68 = X 0 68 := (up2_ne (Or.inr (by decide))).trans (g5 0 68 (by decide) (by decide) (by decide) (by decide) (Or.inl (by decide)) (by decide))
    have k31 : up2 X2 0 33 0 0 31 = 0 := (up2_ne (Or.inr (by decide))).trans g1
    have U2 : UndoR (up2 X2 0 33 0) := by unfold UndoR; rw [k67, k68]; exact U
    refine mc_noteTextChange hM U2 (fun X3 hX3 => r_X5_run_46 hM (q0 b hb c1 c2 X3 ?_))
    obtain ⟨p1, p2, p3, p4, p5⟩ := hX3
    rw [k31] at p1
    rw [k68] at p3 p4
    have p5' : ∀ f c : Nat, f ≠ 70 → f ≠ 71 → f ≠ 76 → (f ≠ 66 ∨ (2560 ≤ c ∧ c < 3520)) → (f ≠ 0 ∨ (c ≠ 31 ∧ c ≠ 67 ∧ c ≠ 68 ∧ (c < 72 ∨ 75 < c) ∧ c ≠ 83)) → X3 f c = up2 X2 0 33 0 f c := p5
    refine ⟨p1, p2, p3, fun i hi => ?_, ?_, ?_, ?_, fun f c a1 a2 a3 a4 a5 a6 => ?_⟩
    · refine Sg.trans ?_ (p4 i hi)
      intro f c hf
      have es : ∀ j, stk (up2 X2 0 33 0) j f c = stk X j f c := by
        intro j
        have hj : slotN X j < 8 := Nat.mod_lt _ (by decide)
        have e1 : slotN (up2 X2 0 33 0) j = slotN X j := by unfold slotN; rw [k67]
        unfold stk imgS
        rw [e1, up2_ne (Or.inl (by decide))]
        exact g5 66 _ (by decide) (by decide) (by decide) (by decide) (by omega) (Or.inl (by decide))
      have ei : imgS (up2 X2 0 33 0) 10 f c = S f c := by
        unfold imgS
        rw [up2_ne (Or.inl (by decide))]
        exact g4 f c hf
      unfold pushF
      split <;> split <;> first | exact es _ | exact ei
    · rw [p5' 0 33 (by decide) (by decide) (by decide) (by decide) (by decide), up2_at]
    · rw [p5' 0 34 (by decide) (by decide) (by decide) (by decide) (by decide), up2_ne (Or.inr (by decide))]; exact g2
    · rw [p5' 0 35 (by decide) (by decide) (by decide) (by decide) (by decide), up2_ne (Or.inr (by decide))]; exact g3
    · rw [p5' f c a1 a2 a3 (by omega) (by omega), up2_ne (by omega)]
      exact g5 f c a1 a2 a3 a4 (by omega) (by omega)
