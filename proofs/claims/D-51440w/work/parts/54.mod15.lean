/-! THE MODEL'S METHODS, 15: commands -/
theorem sub_in {S : St} {v : Int} (h : 0 ≤ v ∧ v ≤ subN S) : 0 ≤ v ∧ v < S 0 38 * S 0 39 := by unfold subN at h; omega
theorem mc_readsCall {Z : ZT} {d : Nat} {G : GH} {Q : TR → GH → Prop} {m : Nat} {S X : St} {B : Nat → Int} {n : Nat} {p : Nat} (hM : MOK G m) (V : Ok S) (R : RX B n X) (h77 : X 0 77 = (p : Int)) (hp : p ≤ n) (qe : ∀ e X', callR B n S p = .inl e → Xe X X' e → Q (.inl (some (tI 0))) (pM G m S X')) (qg : ∀ a, callR B n S p = .inr a → ∀ X', Xd X X' → X' 0 77 = (a.2 : Int) → Q (.inl (some (tI 1))) (pM G m a.1 X')) : TC Z (d + 8) mi_X5_readsCall [tR (some m)] (pM G m S X) Q := by
  have I := V.1.1
  obtain ⟨⟨i38, i39, i40, i41, i42, i43, i44, i45, i46, i47, i55, i60⟩, irow, iwait, igrp⟩ := id I
  have s36 := sub36 I
  unfold callR at qe qg
  refine c_X5_readsCall hM (mc_readsSubscriber hM I R h77 hp (fun e X1 he hX1 => r_X5_readsCall_4 hM ⟨by decide, fun h => absurd rfl h, fun _ => qe e X1 (by rw [he]) hX1⟩) (fun he X1 hX1 hT1 => r_X5_readsCall_4 hM ⟨by decide, fun _ => ?_, fun h => absurd h (by decide)⟩))
  have v1 := num_in he
  rw [he] at qe qg
  dsimp only at qe qg v1
  have e1 := (tE_rng (B := B) hp).2
  rw [hT1.2.2.2.2]
  refine mc_readsSubscriber hM I (R.d hX1) hT1.1 e1 (fun e X2 he2 hX2 => r_X5_readsCall_18 hM ⟨by decide, fun h => absurd rfl h, fun _ => qe e X2 (by rw [he2]) (hX1.e hX2)⟩) (fun he2 X2 hX2 hT2 => r_X5_readsCall_18 hM ⟨by decide, fun _ => ?_, fun h => absurd h (by decide)⟩)
  have v2 := num_in he2
  rw [he2] at qe qg
  dsimp only at qe qg v2
  have e2 := (tE_rng (B := B) e1).2
  rw [hT2.2.2.2.2]
  have b1 := sub_in ⟨v1.1, v1.2.1⟩
  have b2 := sub_in ⟨v2.1, v2.2.1⟩
  refine ⟨by omega, by omega, fun h => ?_, fun h => ?_⟩
  · rw [if_neg h] at qe qg
    refine mc_readsLasts hM (R.d (hX1.trans hX2)) hT2.1 e2 (fun e X3 he3 hX3 => r_X5_readsCall_43 hM ⟨by decide, fun h => absurd rfl h, fun _ => qe e X3 (by rw [he3]) ((hX1.trans hX2).e hX3)⟩) (fun l p3 he3 l0 l1 hp3 X3 hX3 h3 hl3 => r_X5_readsCall_43 hM ⟨by decide, fun _ => ?_, fun h => absurd h (by decide)⟩)
    rw [he3] at qg
    dsimp only at qg
    rw [hl3]
    exact mc_callsUp hM V.1 (by omega) (by omega) (fun X4 hX4 => r_X5_readsCall_58 hM (qg _ rfl X4 (((hX1.trans hX2).trans hX3).trans hX4.d) ((hX4 0 77 (by decide) (by decide) (by decide)).trans h3)))
  · rw [if_pos h] at qe
    exact mc_blames hM (fun X3 hX3 => r_X5_readsCall_38 hM ⟨Or.inl rfl, qe _ X3 rfl ((hX1.trans hX2).e (by rw [hT2.2.1] at hX3; exact hX3))⟩)
theorem mc_readsDial {Z : ZT} {d : Nat} {G : GH} {Q : TR → GH → Prop} {m : Nat} {S X : St} {B : Nat → Int} {n : Nat} {p : Nat} (hM : MOK G m) (V : Ok S) (R : RX B n X) (h77 : X 0 77 = (p : Int)) (hp : p ≤ n) (qe : ∀ e X', dialR B n S p = .inl e → Xe X X' e → Q (.inl (some (tI 0))) (pM G m S X')) (qg : ∀ a, dialR B n S p = .inr a → ∀ X', Xd X X' → X' 0 77 = (a.2 : Int) → Q (.inl (some (tI 1))) (pM G m a.1 X')) : TC Z (d + 8) mi_X5_readsDial [tR (some m)] (pM G m S X) Q := by
  have I := V.1.1
  obtain ⟨⟨i38, i39, i40, i41, i42, i43, i44, i45, i46, i47, i55, i60⟩, irow, iwait, igrp⟩ := id I
  have s36 := sub36 I
  unfold dialR at qe qg
  refine c_X5_readsDial hM (mc_readsSubscriber hM I R h77 hp (fun e X1 he hX1 => r_X5_readsDial_4 hM ⟨by decide, fun h => absurd rfl h, fun _ => qe e X1 (by rw [he]) hX1⟩) (fun he X1 hX1 hT1 => r_X5_readsDial_4 hM ⟨by decide, fun _ => ?_, fun h => absurd h (by decide)⟩))
  have v1 := num_in he
  rw [he] at qe qg
  dsimp only at qe qg v1
  have e1 := (tE_rng (B := B) hp).2
  have b1 := sub_in ⟨v1.1, v1.2.1⟩
  rw [hT1.2.2.2.2]
  refine mc_token hM (R.d hX1) hT1.1 e1 (fun X2 hX2 hT2 => r_X5_readsDial_18 hM ?_)
  obtain ⟨t77, t78, t79, t80, t81⟩ := id hT2
  have kr := tK_rng (B := B) (n := n) (k := tE B n p)
  have lr := tkL_rng (B := B) e1
  have hn6 := R.2.2.1
  have bad : (¬ tK B n (tE B n p) = 1 ∨ ¬ tkL B n (tE B n p) ≤ 6) → TC Z (d + 7) mi_X5_blames [tR (some m), tI 1] (pM G m S X2) (KQ Z mi_X5_readsDial (d + 8) 37 40 [some (tR (some m)), some (tI (tV B n p)), none] [] Q) := fun hn => by
    rw [if_pos hn] at qe
    exact mc_blames hM (fun X3 hX3 => r_X5_readsDial_40 hM ⟨Or.inl rfl, qe _ X3 rfl ((hX1.trans hX2).e (by rw [t78] at hX3; exact hX3))⟩)
  refine ⟨by omega, fun h => bad (Or.inl (fun z => h (t79.trans z))), fun h => ⟨by omega, fun h2 => ?_, fun h2 => bad (Or.inr (by omega))⟩⟩
  have hK : tK B n (tE B n p) = 1 := t79.symm.trans h
  have hL : tkL B n (tE B n p) ≤ 6 := by omega
  rw [if_neg (by omega)] at qe qg
  have gr : -1 ≤ grpOf B n S (tE B n p) ∧ grpOf B n S (tE B n p) < S 0 60 := by
    have := fnd_rng (p := grpEq B n S (tE B n p)) (S 0 60).toNat 0
    unfold grpOf
    omega
  have e2 := (tE_rng (B := B) e1).2
  refine mc_groupOfToken hM V.1 (R.d (hX1.trans hX2)) e1 hT2 hK hL (r_X5_readsDial_45 hM ⟨by omega, fun h3 => ?_, fun h3 => ?_⟩)
  · rw [if_neg h3] at qe qg
    refine mc_readsLasts hM (R.d (hX1.trans hX2)) t77 e2 (fun e X3 he3 hX3 => r_X5_readsDial_61 hM ⟨by decide, fun h => absurd rfl h, fun _ => qe e X3 (by rw [he3]) ((hX1.trans hX2).e hX3)⟩) (fun l p3 he3 l0 l1 hp3 X3 hX3 h3 hl3 => r_X5_readsDial_61 hM ⟨by decide, fun _ => ?_, fun h => absurd h (by decide)⟩)
    rw [he3] at qg
    dsimp only at qg
    rw [hl3]
    exact mc_dials hM V.1 (by omega) (by omega) (fun X4 hX4 => r_X5_readsDial_76 hM (qg _ rfl X4 (((hX1.trans hX2).trans hX3).trans hX4.d) ((hX4 0 77 (by decide) (by decide) (by decide)).trans h3)))
  · rw [if_pos h3] at qe
    exact mc_blames hM (fun X3 hX3 => r_X5_readsDial_56 hM ⟨Or.inl rfl, qe _ X3 rfl ((hX1.trans hX2).e (by rw [t78] at hX3; exact hX3))⟩)
theorem mc_readsMiddle {Z : ZT} {d : Nat} {G : GH} {Q : TR → GH → Prop} {m : Nat} {S X : St} {B : Nat → Int} {n : Nat} {p : Nat} {b : Bool} (hM : MOK G m) (V : Ok S) (R : RX B n X) (h77 : X 0 77 = (p : Int)) (hp : p ≤ n) (qe : ∀ e X', midR B n S p b = .inl e → Xe X X' e → Q (.inl (some (tI 0))) (pM G m S X')) (qg : ∀ a, midR B n S p b = .inr a → ∀ X', Xd X X' → X' 0 77 = (a.2 : Int) → Q (.inl (some (tI 1))) (pM G m a.1 X')) : TC Z (d + 8) mi_X5_readsMiddle [tR (some m), tI (b2i b)] (pM G m S X) Q := by
  have I := V.1.1
  obtain ⟨⟨i38, i39, i40, i41, i42, i43, i44, i45, i46, i47, i55, i60⟩, irow, iwait, igrp⟩ := id I
  unfold midR at qe qg
  refine c_X5_readsMiddle hM (mc_readsNumber hM R h77 hp (by decide) (by omega) (fun e X1 he hX1 => r_X5_readsMiddle_11 hM ⟨by decide, fun h => absurd rfl h, fun _ => qe e X1 (by rw [he]) hX1⟩) (fun he X1 hX1 hT1 => r_X5_readsMiddle_11 hM ⟨by decide, fun _ => ?_, fun h => absurd h (by decide)⟩))
  have v1 := num_in he
  rw [he] at qe qg
  dsimp only at qe qg v1
  have e1 := (tE_rng (B := B) hp).2
  rw [hT1.2.2.2.2]
  refine mc_isCut hM (r_X5_readsMiddle_26 hM ⟨by have := b2i_rng (isCutB S (tV B n p)); omega, by have := b2i_rng b; omega, fun h => ?_, fun h => ?_⟩)
  · have hne : ¬ isCutB S (tV B n p) = b := fun z => h (by rw [z])
    rw [if_neg hne] at qe qg
    refine mc_readsSemicolon hM (R.d hX1) hT1.1 e1 (fun e X2 he2 hX2 => r_X5_readsMiddle_41 hM ⟨by decide, fun h => absurd rfl h, fun _ => qe e X2 (by rw [he2]) (hX1.e hX2)⟩) (fun he2 X2 hX2 h2 => r_X5_readsMiddle_41 hM ⟨by decide, fun _ => ?_, fun h => absurd h (by decide)⟩)
    rw [he2] at qg
    dsimp only at qg
    cases b with
    | false =>
      refine ⟨by decide, fun _ => ?_, fun h => absurd rfl h⟩
      exact mc_serves hM (V.mended (by omega)).1 (fun X3 hX3 => r_X5_readsMiddle_77 hM (qg _ rfl X3 ((hX1.trans hX2).trans hX3.d) ((hX3 0 77 (by decide) (by decide) (by decide)).trans h2)))
    | true =>
      refine ⟨by decide, fun h => absurd h (by decide), fun _ => ?_⟩
      exact mc_cuts hM V (by omega) (fun X3 hX3 => r_X5_readsMiddle_55 hM (qg _ rfl X3 ((hX1.trans hX2).trans hX3.d) ((hX3 0 77 (by decide) (by decide) (by decide) (by decide)).trans h2)))
  · have he4 : isCutB S (tV B n p) = b := by cases h1 : isCutB S (tV B n p) <;> cases b <;> simp [h1, b2i] at h ⊢
    rw [if_pos he4] at qe
    exact mc_blames hM (fun X3 hX3 => r_X5_readsMiddle_36 hM ⟨Or.inl rfl, qe _ X3 rfl (hX1.e (by rw [hT1.2.1] at hX3; exact hX3))⟩)
theorem mc_readsRule {Z : ZT} {d : Nat} {G : GH} {Q : TR → GH → Prop} {m : Nat} {S X : St} {B : Nat → Int} {n : Nat} {p : Nat} {b : Bool} (hM : MOK G m) (V : Ok S) (R : RX B n X) (h77 : X 0 77 = (p : Int)) (hp : p ≤ n) (qe : ∀ e X', ruleR B n S p b = .inl e → Xe X X' e → Q (.inl (some (tI 0))) (pM G m S X')) (qg : ∀ a, ruleR B n S p b = .inr a → ∀ X', Xd X X' → X' 0 77 = (a.2 : Int) → Q (.inl (some (tI 1))) (pM G m a.1 X')) : TC Z (d + 8) mi_X5_readsRule [tR (some m), tI (b2i b)] (pM G m S X) Q := by
  unfold ruleR at qe qg
  have e1 := (tE_rng (B := B) hp).2
  refine c_X5_readsRule hM (mc_token hM R h77 hp (fun X1 hX1 hT1 => r_X5_readsRule_4 hM (mc_spelled hM (R.d hX1) hp hT1 (r_X5_readsRule_8 hM ?_))))
  have sk := spellK_rng (B := B) (n := n) (k := p)
  have w1 := word_iff (k := p) (B := B) (n := n) (w := wLow) (v := 12791) (by decide) (by decide) (by decide) (by decide)
  have w2 := word_iff (k := p) (B := B) (n := n) (w := wPacked) (v := 538029220) (by decide) (by decide) (by decide) (by decide)
  have w3 := word_iff (k := p) (B := B) (n := n) (w := wRound) (v := 19387844) (by decide) (by decide) (by decide) (by decide)
  have w4 := word_iff (k := p) (B := B) (n := n) (w := wPlain) (v := 17171758) (by decide) (by decide) (by decide) (by decide)
  have w5 := word_iff (k := p) (B := B) (n := n) (w := wChains) (v := 109094355) (by decide) (by decide) (by decide) (by decide)
  have bad : ruleN B n p b = -1 → TC Z (d + 7) mi_X5_blames [tR (some m), tI 1] (pM G m S X1) (KQ Z mi_X5_readsRule (d + 8) 88 91 [some (tR (some m)), some (tI (b2i b)), some (tL (spellK B n p)), none, some (tI (-1))] [] Q) := fun hn => by
    rw [if_pos hn] at qe
    exact mc_blames hM (fun X3 hX3 => r_X5_readsRule_91 hM ⟨Or.inl rfl, qe _ X3 rfl (hX1.e (by rw [hT1.2.1] at hX3; exact hX3))⟩)
  have good : ∀ v : Int, ruleN B n p b = v → 0 ≤ v → (if b = true then v ≤ 1 else v ≤ 2) → TC Z (d + 7) mi_X5_readsSemicolon [tR (some m)] (pM G m S X1) (KQ Z mi_X5_readsRule (d + 8) 93 96 [some (tR (some m)), some (tI (b2i b)), some (tL (spellK B n p)), none, some (tI v)] [] Q) := fun v hv h0 h1 => by
    rw [if_neg (by omega)] at qe qg
    rw [hv] at qg
    refine mc_readsSemicolon hM (R.d hX1) hT1.1 e1 (fun e X2 he2 hX2 => r_X5_readsRule_96 hM ⟨by decide, fun h => absurd rfl h, fun _ => qe e X2 (by rw [he2]) (hX1.e hX2)⟩) (fun he2 X2 hX2 h2 => r_X5_readsRule_96 hM ⟨by decide, fun _ => ?_, fun h => absurd h (by decide)⟩)
    rw [he2] at qg
    dsimp only at qg
    cases b with
    | false => exact ⟨by decide, fun _ => qg _ rfl X2 (hX1.trans hX2) h2, fun h => absurd rfl h⟩
    | true =>
      rw [if_pos rfl] at h1
      exact ⟨by decide, fun h => absurd h (by decide), fun _ => mc_serves hM (V.mode ⟨h0, h1⟩).1 (fun X3 hX3 => r_X5_readsRule_115 hM (qg _ rfl X3 ((hX1.trans hX2).trans hX3.d) ((hX3 0 77 (by decide) (by decide) (by decide)).trans h2)))⟩
  cases b with
  | false =>
    refine ⟨by decide, fun _ => ⟨by omega, lsgn_rng, fun h1 => ⟨lsgn_rng, fun h2 => ⟨lsgn_rng, fun h3 => ?_, fun h3 => ?_⟩, fun h2 => ?_⟩, fun h1 => ?_⟩, fun h => absurd rfl h⟩
    · exact bad (by unfold ruleN; rw [if_neg (by decide), if_neg (fun z => h1 (w1.mpr z)), if_neg (fun z => h2 (w2.mpr z)), if_neg (fun z => h3 (w3.mpr z))])
    · exact good 2 (by unfold ruleN; rw [if_neg (by decide), if_neg (fun z => h1 (w1.mpr z)), if_neg (fun z => h2 (w2.mpr z)), if_pos (w3.mp h3)]) (by decide) (by decide)
    · exact good 1 (by unfold ruleN; rw [if_neg (by decide), if_neg (fun z => h1 (w1.mpr z)), if_pos (w2.mp h2)]) (by decide) (by decide)
    · exact good 0 (by unfold ruleN; rw [if_neg (by decide), if_pos (w1.mp h1)]) (by decide) (by decide)
  | true =>
    refine ⟨by decide, fun h => absurd h (by decide), fun _ => ⟨by omega, lsgn_rng, fun h1 => ⟨lsgn_rng, fun h2 => ?_, fun h2 => ?_⟩, fun h1 => ?_⟩⟩
    · exact bad (by unfold ruleN; rw [if_pos rfl, if_neg (fun z => h1 (w4.mpr z)), if_neg (fun z => h2 (w5.mpr z))])
    · exact good 1 (by unfold ruleN; rw [if_pos rfl, if_neg (fun z => h1 (w4.mpr z)), if_pos (w5.mp h2)]) (by decide) (by decide)
    · exact good 0 (by unfold ruleN; rw [if_pos rfl, if_pos (w4.mp h1)]) (by decide) (by decide)
theorem mc_command {Z : ZT} {d : Nat} {G : GH} {Q : TR → GH → Prop} {m : Nat} {S X : St} {B : Nat → Int} {n : Nat} {k : Nat} (hM : MOK G m) (V : Ok S) (ht : S 0 44 ≤ 9999) (R : RX B n X) (hk : k ≤ n) (T : Tk B n k X) (qe : ∀ e X', cmdR B n S k = .inl e → Xe X X' e → Q (.inl (some (tI 0))) (pM G m S X')) (qg : ∀ a, cmdR B n S k = .inr a → ∀ X', Xd X X' → X' 0 77 = (a.2 : Int) → Q (.inl (some (tI 1))) (pM G m a.1 X')) : TC Z (d + 9) mi_X5_command [tR (some m)] (pM G m S X) Q := by
  have I := V.1.1
  obtain ⟨⟨i38, i39, i40, i41, i42, i43, i44, i45, i46, i47, i55, i60⟩, irow, iwait, igrp⟩ := id I
  have s36 := sub36 I
  have e1 := (tE_rng (B := B) hk).2
  unfold cmdR at qe qg
  refine c_X5_command hM (mc_spelled hM R hk T (r_X5_command_4 hM ?_))
  have sk := spellK_rng (B := B) (n := n) (k := k)
  have w1 := word_iff (k := k) (B := B) (n := n) (w := wCall) (v := 99724) (by decide) (by decide) (by decide) (by decide)
  have w2 := word_iff (k := k) (B := B) (n := n) (w := wDial) (v := 140332) (by decide) (by decide) (by decide) (by decide)
  have w3 := word_iff (k := k) (B := B) (n := n) (w := wHang) (v := 263623) (by decide) (by decide) (by decide) (by decide)
  have w4 := word_iff (k := k) (B := B) (n := n) (w := wTick) (v := 664683) (by decide) (by decide) (by decide) (by decide)
  have w5 := word_iff (k := k) (B := B) (n := n) (w := wCut) (v := 3764) (by decide) (by decide) (by decide) (by decide)
  have w6 := word_iff (k := k) (B := B) (n := n) (w := wMend) (v := 431556) (by decide) (by decide) (by decide) (by decide)
  have w7 := word_iff (k := k) (B := B) (n := n) (w := wMode) (v := 441477) (by decide) (by decide) (by decide) (by decide)
  have w8 := word_iff (k := k) (B := B) (n := n) (w := wHunt) (v := 284116) (by decide) (by decide) (by decide) (by decide)
  have w9 := word_iff (k := k) (B := B) (n := n) (w := wPack) (v := 525419) (by decide) (by decide) (by decide) (by decide)
  refine ⟨by omega, lsgn_rng, fun h1 => ⟨fun z => absurd h1 z, fun _ => ?_⟩, fun h1 => ⟨lsgn_rng, fun h2 => ⟨lsgn_rng, fun h3 => ⟨lsgn_rng, fun h4 => ⟨lsgn_rng, fun h5 => ⟨fun z => absurd h5 z, fun _ => ?_⟩, fun h5 => ⟨lsgn_rng, fun h6 => ⟨lsgn_rng, fun h7 => ⟨fun z => absurd h7 z, fun _ => ?_⟩, fun h7 => ⟨lsgn_rng, fun h8 => ⟨lsgn_rng, fun h9 => ?_, fun h9 => ?_⟩, fun h8 => ⟨fun _ => ?_, fun z => absurd z h7⟩⟩⟩, fun h6 => ⟨fun _ => ?_, fun z => absurd z h5⟩⟩⟩, fun h4 => ?_⟩, fun h3 => ?_⟩, fun h2 => ⟨fun _ => ?_, fun z => absurd z h1⟩⟩⟩
  · rw [if_pos (w1.mp h1)] at qe qg
    exact mc_readsCall hM V R T.1 e1 (fun e X' h h' => r_X5_command_33 hM ⟨Or.inl rfl, qe e X' h h'⟩) (fun a h X' h' h'' => r_X5_command_33 hM ⟨Or.inr rfl, qg a h X' h' h''⟩)
  · rw [if_neg (fun z => h1 (w1.mpr z)), if_neg (fun z => h2 (w2.mpr z)), if_neg (fun z => h3 (w3.mpr z)), if_neg (fun z => h4 (w4.mpr z)), if_pos (w5.mp h5)] at qe qg
    exact mc_readsMiddle (b := true) hM V R T.1 e1 (fun e X' h h' => r_X5_command_208 hM ⟨Or.inl rfl, qe e X' h h'⟩) (fun a h X' h' h'' => r_X5_command_208 hM ⟨Or.inr rfl, qg a h X' h' h''⟩)
  · rw [if_neg (fun z => h1 (w1.mpr z)), if_neg (fun z => h2 (w2.mpr z)), if_neg (fun z => h3 (w3.mpr z)), if_neg (fun z => h4 (w4.mpr z)), if_neg (fun z => h5 (w5.mpr z)), if_neg (fun z => h6 (w6.mpr z)), if_pos (w7.mp h7)] at qe qg
    exact mc_readsRule (b := true) hM V R T.1 e1 (fun e X' h h' => r_X5_command_242 hM ⟨Or.inl rfl, qe e X' h h'⟩) (fun a h X' h' h'' => r_X5_command_242 hM ⟨Or.inr rfl, qg a h X' h' h''⟩)
  · rw [if_neg (fun z => h1 (w1.mpr z)), if_neg (fun z => h2 (w2.mpr z)), if_neg (fun z => h3 (w3.mpr z)), if_neg (fun z => h4 (w4.mpr z)), if_neg (fun z => h5 (w5.mpr z)), if_neg (fun z => h6 (w6.mpr z)), if_neg (fun z => h7 (w7.mpr z)), if_neg (fun z => h8 (w8.mpr z)), if_neg (fun z => h9 (w9.mpr z))] at qe
    exact mc_blames hM (fun X' h => r_X5_command_276 hM ⟨Or.inl rfl, qe _ X' rfl (by rw [T.2.1] at h; exact h)⟩)
  · rw [if_neg (fun z => h1 (w1.mpr z)), if_neg (fun z => h2 (w2.mpr z)), if_neg (fun z => h3 (w3.mpr z)), if_neg (fun z => h4 (w4.mpr z)), if_neg (fun z => h5 (w5.mpr z)), if_neg (fun z => h6 (w6.mpr z)), if_neg (fun z => h7 (w7.mpr z)), if_neg (fun z => h8 (w8.mpr z)), if_pos (w9.mp h9)] at qe qg
    unfold packR at qe qg
    refine mc_readsSemicolon hM R T.1 e1 (fun e X2 he2 hX2 => r_X5_command_255 hM ⟨by decide, fun h => absurd rfl h, fun _ => qe e X2 (by rw [he2]) hX2⟩) (fun he2 X2 hX2 h2' => r_X5_command_255 hM ⟨by decide, fun _ => ?_, fun h => absurd h (by decide)⟩)
    rw [he2] at qg
    dsimp only at qg
    exact mc_packs hM V (fun X3 hX3 => r_X5_command_264 hM (mc_serves hM V.pks.1.1 (fun X4 hX4 => r_X5_command_269 hM (qg _ rfl X4 ((hX2.trans hX3.d).trans hX4.d) ((hX4 0 77 (by decide) (by decide) (by decide)).trans ((hX3 0 77 (by decide) (by decide) (by decide) (by decide)).trans h2'))))))
  · rw [if_neg (fun z => h1 (w1.mpr z)), if_neg (fun z => h2 (w2.mpr z)), if_neg (fun z => h3 (w3.mpr z)), if_neg (fun z => h4 (w4.mpr z)), if_neg (fun z => h5 (w5.mpr z)), if_neg (fun z => h6 (w6.mpr z)), if_neg (fun z => h7 (w7.mpr z)), if_pos (w8.mp h8)] at qe qg
    exact mc_readsRule (b := false) hM V R T.1 e1 (fun e X' h h' => r_X5_command_242 hM ⟨Or.inl rfl, qe e X' h h'⟩) (fun a h X' h' h'' => r_X5_command_242 hM ⟨Or.inr rfl, qg a h X' h' h''⟩)
  · rw [if_neg (fun z => h1 (w1.mpr z)), if_neg (fun z => h2 (w2.mpr z)), if_neg (fun z => h3 (w3.mpr z)), if_neg (fun z => h4 (w4.mpr z)), if_neg (fun z => h5 (w5.mpr z)), if_pos (w6.mp h6)] at qe qg
    exact mc_readsMiddle (b := false) hM V R T.1 e1 (fun e X' h h' => r_X5_command_208 hM ⟨Or.inl rfl, qe e X' h h'⟩) (fun a h X' h' h'' => r_X5_command_208 hM ⟨Or.inr rfl, qg a h X' h' h''⟩)
  · rw [if_neg (fun z => h1 (w1.mpr z)), if_neg (fun z => h2 (w2.mpr z)), if_neg (fun z => h3 (w3.mpr z)), if_pos (w4.mp h4)] at qe qg
    unfold tickR at qe qg
    have go : ∀ hi : Int, hi = (if 9999 - S 0 44 < 100 then 9999 - S 0 44 else 100) → inR hi → TC Z (d + 8) mi_X5_readsNumber [tR (some m), tI 1, tI hi] (pM G m S X) (KQ Z mi_X5_command (d + 9) 131 134 [some (tR (some m)), some (tL (spellK B n k)), none, none, none] [] Q) := by
      intro hi hh hir
      rw [← hh] at qe qg
      refine mc_readsNumber hM R T.1 e1 (by decide) hir (fun e X2 he2 hX2 => r_X5_command_134 hM ⟨by decide, fun h => absurd rfl h, fun _ => qe e X2 (by rw [he2]) hX2⟩) (fun he2 X2 hX2 hT2 => r_X5_command_134 hM ⟨by decide, fun _ => ?_, fun h => absurd h (by decide)⟩)
      have v2 := num_in he2
      rw [he2] at qe qg
      dsimp only at qe qg v2
      have hi2 : hi ≤ 100 ∧ S 0 44 + hi ≤ 9999 := by rw [hh]; split <;> omega
      have e2 := (tE_rng (B := B) e1).2
      rw [hT2.2.2.2.2]
      refine mc_readsSemicolon hM (R.d hX2) hT2.1 e2 (fun e X3 he3 hX3 => r_X5_command_148 hM ⟨by decide, fun h => absurd rfl h, fun _ => qe e X3 (by rw [he3]) (hX2.e hX3)⟩) (fun he3 X3 hX3 h3' => r_X5_command_148 hM ⟨by decide, fun _ => ?_, fun h => absurd h (by decide)⟩)
      rw [he3] at qg
      dsimp only at qg
      have loop : ∀ (r j : Nat) (e : Int) (S1 X4 : St), (j : Int) + r = tV B n (tE B n k) → Ok S1 → S1 0 44 + r ≤ 100000 → Xd X X4 → X4 0 77 = (tE B n (tE B n (tE B n k)) : Int) → (ticksL r e S1).2 = (ticksL (tV B n (tE B n k)).toNat 0 S).2 → TW Z mi_X5_command (d + 9) 156 [some (tR (some m)), some (tL (spellK B n k)), none, some (tI (tV B n (tE B n k))), some (tI (j : Int))] [] (pM G m S1 X4) Q := by
        intro r
        induction r with
        | zero =>
          intro j e S1 X4 hj V1 ht1 hX h7 he
          have he : S1 = _ := he
          have := qg _ rfl X4 hX h7
          dsimp only at this
          rw [← he] at this
          exact r_X5_command_156 hM ⟨by omega, by omega, fun _ => this, fun h => by omega⟩
        | succ r ih =>
          intro j e S1 X4 hj V1 ht1 hX h7 he
          obtain ⟨a, b, c⟩ := V1.pss (by omega)
          exact r_X5_command_156 hM ⟨by omega, by omega, fun h => by omega, fun _ => mc_passes hM V1 (by omega) (fun X5 hX5 => r_X5_command_166 hM (ih (j + 1) (e + (passes S1).1) (passes S1).2 X5 (by omega) a (by omega) (hX.trans hX5.d) ((hX5 0 77 (by decide) (by decide) (by decide)).trans h7) he))⟩
      exact loop (tV B n (tE B n k)).toNat 0 0 S X3 (by omega) V (by omega) (hX2.trans hX3) h3' rfl
    exact ⟨by omega, fun h => go 100 (by rw [if_neg (by omega)]) (by decide), fun h => go _ (by rw [if_pos (by omega)]) (by omega)⟩
  · rw [if_neg (fun z => h1 (w1.mpr z)), if_neg (fun z => h2 (w2.mpr z)), if_pos (w3.mp h3)] at qe qg
    unfold hangR at qe qg
    refine mc_readsSubscriber hM I R T.1 e1 (fun e X2 he2 hX2 => r_X5_command_53 hM ⟨by decide, fun h => absurd rfl h, fun _ => qe e X2 (by rw [he2]) hX2⟩) (fun he2 X2 hX2 hT2 => r_X5_command_53 hM ⟨by decide, fun _ => ?_, fun h => absurd h (by decide)⟩)
    have v2 := num_in he2
    rw [he2] at qe qg
    dsimp only at qe qg v2
    have b2 := sub_in ⟨v2.1, v2.2.1⟩
    have e2 := (tE_rng (B := B) e1).2
    rw [hT2.2.2.2.2]
    refine mc_isIdle hM I (by omega) (r_X5_command_68 hM ?_)
    cases hb : idleB S (tV B n (tE B n k)) with
    | true =>
      rw [hb, if_pos rfl] at qe
      exact ⟨by decide, fun h => absurd h (by decide), fun _ => mc_blames hM (fun X3 hX3 => r_X5_command_77 hM ⟨Or.inl rfl, qe _ X3 rfl (hX2.e (by rw [hT2.2.1] at hX3; exact hX3))⟩)⟩
    | false =>
      rw [hb, if_neg (by decide)] at qe qg
      refine ⟨by decide, fun _ => mc_readsSemicolon hM (R.d hX2) hT2.1 e2 (fun e X3 he3 hX3 => r_X5_command_82 hM ⟨by decide, fun h => absurd rfl h, fun _ => qe e X3 (by rw [he3]) (hX2.e hX3)⟩) (fun he3 X3 hX3 h3' => r_X5_command_82 hM ⟨by decide, fun _ => ?_, fun h => absurd h (by decide)⟩), fun h => absurd rfl h⟩
      rw [he3] at qg
      dsimp only at qg
      exact mc_hangs hM V (by omega) hb (fun X4 hX4 => r_X5_command_92 hM (qg _ rfl X4 ((hX2.trans hX3).trans hX4.d) ((hX4 0 77 (by decide) (by decide) (by decide)).trans h3')))
  · rw [if_neg (fun z => h1 (w1.mpr z)), if_pos (w2.mp h2)] at qe qg
    exact mc_readsDial hM V R T.1 e1 (fun e X' h h' => r_X5_command_40 hM ⟨Or.inl rfl, qe e X' h h'⟩) (fun a h X' h' h'' => r_X5_command_40 hM ⟨Or.inr rfl, qg a h X' h' h''⟩)
