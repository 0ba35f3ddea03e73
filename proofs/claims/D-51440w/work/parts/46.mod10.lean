/-! THE MODEL'S METHODS, 10: why, the check, output, input -/
theorem mp_why {Z : ZT} {d : Nat} {G : GH} {Q : TR → GH → Prop} {m : Nat} {S X : St} {a b w : Int} (hM : MOK G m) (V : Inv S) (ha : inR a) (hb : inR b) (hw : inR w) (q : QC G m S X (whyA S a b w) Q) : TC Z (d + 9) mi_X5_why [tR (some m), tI a, tI b, tI w] (pM G m S X) Q := by
  have I := V.1
  obtain ⟨⟨i38, i39, i40, i41, i42, i43, i44, i45, i46, i47, i55, i60⟩, irow, iwait, igrp⟩ := id I
  have s36 := sub36 I
  unfold whyA at q
  refine c_X5_why hM (mc_noSubscriber hM I ha (r_X5_why_10 hM ?_))
  by_cases h1 : subOK S a
  · rw [decide_eq_true h1]
    refine ⟨by decide, fun h => absurd rfl h, fun _ => mc_noSubscriber hM I hb (r_X5_why_18 hM ?_)⟩
    by_cases h2 : subOK S b
    · rw [decide_eq_true h2]
      rw [if_pos ⟨h1, h2⟩] at q
      unfold subOK at h1 h2
      have ref : ¬ (a ≠ b ∧ 0 ≤ w ∧ w ≤ 2) → TC Z (d + 8) mi_X5_refuse [tR (some m), tI 2] (pM G m S (up2 X 0 31 0)) (KQ Z mi_X5_why (d + 9) 43 46 [some (tR (some m)), some (tI a), some (tI b), some (tI w), none, none, none, none] [] Q) := fun hn => by
        rw [if_neg hn] at q
        exact mc_refuse hM (r_X5_why_46 hM (q S _ Sg.rfl' Xp.b))
      refine ⟨by decide, fun _ => ⟨ha, hb, fun h => ref (by omega), fun h => ⟨hw, fun h3 => ref (by omega), fun h3 => ⟨fun h4 => ⟨by omega, by omega, ?_⟩, fun h4 => ref (by omega)⟩⟩⟩, fun h => absurd rfl h⟩
      rw [if_pos ⟨h, by omega, h4⟩] at q
      have t1 := tdiv_rng h1.1 i39.1
      have t2 := tdiv_rng h2.1 i39.1
      have hr := hunted_rng I (i := a.tdiv (S 0 39)) (j := b.tdiv (S 0 39)) (rule := S 0 43) (low := S 0 40)
      have rr : 0 ≤ reasonNot S a b ∧ reasonNot S a b ≤ 4 := by unfold reasonNot; split <;> (try split) <;> (try split) <;> (try split) <;> omega
      have io := inOrd_rng (S := S)
      have cf := callsAt_rng (S := S) (s := a.tdiv (S 0 39)) (b := false)
      have ct := callsAt_rng (S := S) (s := b.tdiv (S 0 39)) (b := true)
      refine mc_reasonNot hM V (by omega) (by omega) (fun X1 hX1 => r_X5_why_69 hM (mc_hunted hM I (by omega) (by omega) (by omega) (by omega) (r_X5_why_87 hM ⟨by omega, fun hn => ?_, fun hz => ⟨by omega, fun hn => ?_, fun hn => ?_⟩⟩)))
      · have bc : byChain S a b = none := if_neg hn
        have q := q S X1 Sg.rfl' (Xp.s hX1)
        unfold whyD at q
        rw [bc, if_neg hn] at q
        refine ⟨hw, fun d0 => ⟨fun d2 => ⟨fun h => by omega, fun h => absurd h hn, fun h => ?_, fun h => ?_, fun h => ?_, fun h => ?_, fun h => by omega, fun h => by omega⟩, fun d2 => ⟨fun h => ?_, fun h => by omega⟩⟩, fun d0 => ?_⟩
        · rw [if_neg d0, if_neg d2, if_pos h] at q
          exact mc_callNumberOf hM I ha (r_X5_why_196 hM q)
        · rw [if_neg d0, if_neg d2, if_neg (by omega), if_pos h] at q
          exact mc_callNumberOf hM I hb (r_X5_why_202 hM q)
        · rw [if_neg d0, if_neg d2, if_neg (by omega), if_neg (by omega), if_neg (by omega)] at q
          exact q
        · rw [if_neg d0, if_neg d2, if_neg (by omega), if_neg (by omega), if_pos h] at q
          refine mc_callsAt (b := false) hM I (by omega) (r_X5_why_210 hM (mc_inOrder hM I (r_X5_why_214 hM ⟨by omega, by omega, fun h5 => ?_, fun h5 => ?_⟩)))
          · rw [if_neg h5] at q
            refine mc_callsAt (b := true) hM I (by omega) (r_X5_why_228 hM (mc_inOrder hM I (r_X5_why_232 hM ⟨by omega, by omega, fun h6 => ?_, fun h6 => ?_⟩)))
            · rw [if_neg h6] at q; exact q
            · rw [if_pos h6] at q; exact q
          · rw [if_pos h5] at q; exact q
        · rw [if_neg d0, if_pos d2] at q; exact q
        · rw [if_pos d0] at q; exact q
      · have bc : byChain S a b = none := (if_pos hz).trans (if_neg hn)
        have q := q S X1 Sg.rfl' (Xp.s hX1)
        unfold whyD at q
        rw [bc, if_pos hz] at q
        refine ⟨hw, fun d0 => ⟨fun d2 => ⟨fun h => by omega, fun h => ?_, fun h => by omega, fun h => by omega, fun h => by omega, fun h => by omega, fun h => by omega, fun h => by omega⟩, fun d2 => ⟨fun h => ?_, fun h => by omega⟩⟩, fun d0 => ?_⟩
        · rw [if_neg d0, if_neg d2] at q; exact q
        · rw [if_neg d0, if_pos d2] at q; exact q
        · rw [if_pos d0] at q; exact q
      · have bc : byChain S a b = chain S (a.tdiv (S 0 39)) (b.tdiv (S 0 39)) (S 0 40) := (if_pos hz).trans (if_pos hn)
        have hbl : blockedB S (a.tdiv (S 0 39)) (b.tdiv (S 0 39)) = false := by
          cases hb4 : blockedB S (a.tdiv (S 0 39)) (b.tdiv (S 0 39)) with
          | false => rfl
          | true =>
            unfold reasonNot at hz
            rw [hb4] at hz
            split at hz
            · cases hz
            · split at hz
              · cases hz
              · split at hz
                · cases hz
                · simp at hz
        have rs := route_some I (rule := S 0 43) (counts := true) hbl
        refine mc_findChain hM I (by omega) (by omega) (by omega) (V.walk _ _ _ (hunted_none I hn)) (fun X2 hX2 hR => r_X5_why_116 hM ?_)
        cases hc : chain S (a.tdiv (S 0 39)) (b.tdiv (S 0 39)) (S 0 40) with
        | none =>
          exfalso
          apply rs
          unfold route
          split
          · rw [hc]
          · exact hn
        | some c =>
          rw [hc] at hR bc
          obtain ⟨x1, x2, x3, x4, x5, x6, x7⟩ := hR
          have q := q S X2 Sg.rfl' (Xp.s (hX1.trans hX2))
          unfold whyD at q
          rw [bc, if_pos hz] at q
          refine ⟨hw, fun d0 => ⟨fun d2 => ⟨by decide, fun h => by omega, fun h => by omega, fun h => by omega, fun h => by omega, fun h => by omega, fun h => by omega, fun h => by omega, fun _ => ⟨by rw [x6]; have := b2i_rng c.2.2.2; omega, fun h5 => ?_, fun h5 => ?_⟩⟩, fun d2 => ⟨by decide, fun h => absurd rfl h, fun _ => ?_⟩⟩, fun d0 => ?_⟩
          · rw [if_neg d0, if_neg d2] at q
            have hb : c.2.2.2 = false := by rw [x6] at h5; cases hb : c.2.2.2 <;> simp [hb, b2i] at h5 ⊢
            dsimp only at q
            unfold chMid at q
            rw [hb] at q
            rw [x5]; exact q
          · rw [if_neg d0, if_neg d2] at q
            have hb : c.2.2.2 = true := by rw [x6] at h5; cases hb : c.2.2.2 <;> simp [hb, b2i] at h5 ⊢
            dsimp only at q
            unfold chMid at q
            rw [hb] at q
            rw [x4]; exact q
          · rw [if_neg d0, if_pos d2] at q
            rw [x1]; exact q
          · rw [if_pos d0] at q
            exact q
    · rw [decide_eq_false h2]
      rw [if_neg (fun z => h2 z.2)] at q
      exact ⟨by decide, fun h => absurd h (by decide), fun _ => mc_refuse hM (r_X5_why_26 hM (q S _ Sg.rfl' Xp.b))⟩
  · rw [decide_eq_false h1]
    rw [if_neg (fun z => h1 z.1)] at q
    exact ⟨by decide, fun _ => mc_refuse hM (r_X5_why_26 hM (q S _ Sg.rfl' Xp.b)), fun h => absurd h (by decide)⟩
theorem sumI_le1 {p : Nat → Bool} : ∀ (k c : Nat), (∀ x y, c ≤ x → x < c + k → c ≤ y → y < c + k → p x = true → p y = true → x = y) → sumI (fun x => b2i (p x)) k c ≤ 1 := by
  intro k
  induction k with
  | zero => intro c _; simp only [sumI]; decide
  | succ k ih =>
    intro c h
    simp only [sumI]
    cases hp : p c with
    | false =>
      have := ih (c + 1) (fun x y h1 h2 h3 h4 => h x y (by omega) (by omega) (by omega) (by omega))
      rw [b2i_f]; omega
    | true =>
      have : sumI (fun x => b2i (p x)) k (c + 1) = sumI (fun _ => 0) k (c + 1) := sumI_congr _ _ (fun x h1 h2 => by
        cases hx : p x with
        | false => rfl
        | true => have := h c x (by omega) (by omega) (by omega) (by omega) hp hx; omega)
      rw [this]
      have z : ∀ k c : Nat, sumI (fun _ => 0) k c = 0 := fun k => by
        induction k with
        | zero => intro c; rfl
        | succ k ih => intro c; simp only [sumI, ih]; rfl
      rw [z, b2i_t]; decide
theorem cnt_le1 {S : St} (V : Inv S) {k s : Int} {b : Bool} (hk : k ≠ -1) : cntB S k s b ≤ 1 := sumI_le1 _ _ (fun x y _ hx _ hy px py => by
  simp only [Bool.and_eq_true, decide_eq_true_eq] at px py
  exact V.2.1 x y (by omega) (by omega) (px.1.trans py.1.symm) (by rw [px.1]; exact hk) b (px.2.trans py.2.symm))
theorem sumI_0 {f : Nat → Int} : ∀ (k c : Nat), (∀ x, c ≤ x → x < c + k → f x = 0) → sumI f k c = 0 := by
  intro k
  induction k with
  | zero => intro c _; rfl
  | succ k ih =>
    intro c h
    simp only [sumI]
    rw [ih (c + 1) (fun x h1 h2 => h x (by omega) (by omega)), h c (by omega) (by omega)]
    rfl
theorem load_cut {S : St} (V : Inv S) {k : Int} (hk : k ≠ -1) (hc : isCutB S k = true) : loadOf S k = 0 := sumI_0 _ _ (fun x _ hx => by
  rw [decide_eq_false, b2i_f]
  intro e
  rcases V.2.2.1 x (by omega) with h | ⟨-, -, h⟩
  · omega
  · rw [e, hc] at h; cases h)
theorem cnt_rng {S : St} {k s : Int} {b : Bool} : 0 ≤ cntB S k s b := (sumI_rng (p := fun c => decide (S 51 c = k) && decide (endS S c b = s)) _ _).1
theorem mp_gap {Z : ZT} {d : Nat} {G : GH} {Q : TR → GH → Prop} {m : Nat} {S X : St} (hM : MOK G m) (V : Ok S) (q : QC G m S X (0, 0) Q) : TC Z (d + 9) mi_X5_gap [tR (some m)] (pM G m S X) Q := by
  have I := V.1.1
  obtain ⟨⟨i38, i39, i40, i41, i42, i43, i44, i45, i46, i47, i55, i60⟩, irow, iwait, igrp⟩ := id I
  have gp := V.2.2
  unfold Gap at gp
  have inner : ∀ (r c : Nat) (k s f t : Int), c + r = (S 0 47).toNat → 0 ≤ k ∧ k < 9 → 0 ≤ s ∧ s < 6 → 0 ≤ f ∧ f + sumI (fun c => b2i (decide (S 51 c = k) && decide (endS S c false = s))) r c ≤ 1 → 0 ≤ t ∧ t + sumI (fun c => b2i (decide (S 51 c = k) && decide (endS S c true = s))) r c ≤ 1 →
      (∀ o4 o5 o6, TW Z mi_X5_gap (d + 9) 19 [some (tR (some m)), some (tI 0), some (tI k), some (tI (s + 1)), o4, o5, o6] [] (pM G m S (up2 X 0 31 0)) Q) →
      TW Z mi_X5_gap (d + 9) 36 [some (tR (some m)), some (tI 0), some (tI k), some (tI s), some (tI f), some (tI t), some (tI (c : Int))] [] (pM G m S (up2 X 0 31 0)) Q := by
    intro r
    induction r with
    | zero =>
      intro c k s f t hc hk hs hf ht qq
      simp only [sumI] at hf ht
      exact r_X5_gap_36 hM ⟨by omega, by omega, fun _ => ⟨by omega, fun _ => ⟨by omega, fun _ => qq _ _ _, fun h => by omega⟩, fun h => by omega⟩, fun h => by omega⟩
    | succ r ih =>
      intro c k s f t hc hk hs hf ht qq
      have rr := irow c (by omega)
      have e1 := fromS_rng rr (by omega)
      have e2 := toS_rng rr (by omega)
      obtain ⟨r48, r49, r50, r51, -⟩ := id rr
      simp only [sumI] at hf ht
      have sf := (sumI_rng (p := fun c => decide (S 51 c = k) && decide (endS S c false = s)) r (c + 1)).1
      have st := (sumI_rng (p := fun c => decide (S 51 c = k) && decide (endS S c true = s)) r (c + 1)).1
      have ef : endS S c false = fromS S c := rfl
      have et : endS S c true = toS S c := rfl
      rw [ef] at hf
      rw [et] at ht
      refine r_X5_gap_36 hM ⟨by omega, by omega, fun h => by omega, fun _ => ⟨by omega, ?_⟩⟩
      simp only [Int.toNat_natCast]
      refine ⟨by omega, by omega, fun h => ⟨fun _ => ?_, fun h2 => absurd h2 h⟩, fun h => ?_⟩
      · rw [decide_eq_false h, Bool.false_and, b2i_f] at hf ht
        exact ih (c + 1) k s _ _ (by omega) hk hs (by omega) (by omega) qq
      · rw [decide_eq_true h, Bool.true_and] at hf ht
        have two : ∀ f' : Int, f' = f + b2i (decide (fromS S c = s)) → TC Z (d + 8) mi_X5_toSwitch [tR (some m), tI (c : Int)] (pM G m S (up2 X 0 31 0)) (KQ Z mi_X5_gap (d + 9) 92 95 [some (tR (some m)), some (tI 0), some (tI k), some (tI s), some (tI f'), some (tI t), some (tI (c : Int))] [tI t] Q) := by
          intro f' hf'
          subst hf'
          refine mc_toSwitch hM I (by omega) (r_X5_gap_95 hM ⟨by omega, by omega, fun h3 => ?_, fun h3 => ?_⟩)
          · rw [decide_eq_false h3, b2i_f] at ht
            have := b2i_rng (decide (fromS S c = s))
            exact ih (c + 1) k s _ _ (by omega) hk hs (by omega) (by omega) qq
          · rw [decide_eq_true h3, b2i_t] at ht
            have := b2i_rng (decide (fromS S c = s))
            exact ih (c + 1) k s _ _ (by omega) hk hs (by omega) (by omega) qq
        refine mc_fromSwitch hM I (by omega) (r_X5_gap_64 hM ⟨by omega, by omega, fun h3 => ⟨by omega, ?_⟩, fun h3 => ⟨by omega, ?_⟩⟩)
        · simp only [Int.toNat_natCast]
          exact ⟨by omega, by omega, fun h4 => absurd h h4, fun _ => two _ (by rw [decide_eq_false h3]; rfl)⟩
        · simp only [Int.toNat_natCast]
          exact ⟨by omega, by omega, fun h4 => absurd h h4, fun _ => two _ (by rw [decide_eq_true h3]; rfl)⟩
  have mid : ∀ (r s : Nat) (k : Int) (o4 o5 o6 : Option Value), s + r = (S 0 38).toNat → 0 ≤ k ∧ k < 9 → (∀ o3 o4 o5 o6, TW Z mi_X5_gap (d + 9) 9 [some (tR (some m)), some (tI 0), some (tI (k + 1)), o3, o4, o5, o6] [] (pM G m S (up2 X 0 31 0)) Q) →
      TW Z mi_X5_gap (d + 9) 19 [some (tR (some m)), some (tI 0), some (tI k), some (tI (s : Int)), o4, o5, o6] [] (pM G m S (up2 X 0 31 0)) Q := by
    intro r
    induction r with
    | zero =>
      intro s k o4 o5 o6 hs hk qq
      refine r_X5_gap_19 hM ⟨by omega, by omega, fun _ => mc_isCut hM (r_X5_gap_151 hM ?_), fun h => by omega⟩
      cases hc : isCutB S k with
      | false => exact ⟨by decide, fun _ => qq _ _ _ _, fun h => absurd rfl h⟩
      | true =>
        refine ⟨by decide, fun h => absurd h (by decide), fun _ => mc_loadOf hM I (by omega) (r_X5_gap_159 hM ?_)⟩
        rw [load_cut V.1 (by omega) hc]
        exact qq _ _ _ _
    | succ r ih =>
      intro s k o4 o5 o6 hs hk qq
      refine r_X5_gap_19 hM ⟨by omega, by omega, fun h => by omega, fun _ => inner (S 0 47).toNat 0 k s 0 0 (by omega) hk (by omega) ⟨by decide, ?_⟩ ⟨by decide, ?_⟩ (fun o4 o5 o6 => ih (s + 1) k o4 o5 o6 (by omega) hk qq)⟩
      · have := cnt_le1 V.1 (k := k) (s := (s : Int)) (b := false) (by omega)
        unfold cntB at this
        omega
      · have := cnt_le1 V.1 (k := k) (s := (s : Int)) (b := true) (by omega)
        unfold cntB at this
        omega
  have outer : ∀ (r k : Nat) (o3 o4 o5 o6 : Option Value), k + r = (S 0 40).toNat → TW Z mi_X5_gap (d + 9) 9 [some (tR (some m)), some (tI 0), some (tI (k : Int)), o3, o4, o5, o6] [] (pM G m S (up2 X 0 31 0)) Q := by
    intro r
    induction r with
    | zero =>
      intro k o3 o4 o5 o6 hk
      have e : S 0 46 - S 65 0 - S 65 6 - S 65 7 - S 0 47 = 0 := by omega
      refine r_X5_gap_9 hM ⟨by omega, by omega, fun _ => ?_, fun h => by omega⟩
      show inR (S 0 46 - S 65 0 - S 65 6 - S 65 7 - S 0 47) ∧ ((0 ≤ (S 0 46 - S 65 0 - S 65 6 - S 65 7 - S 0 47) → Q (.inl (some (tI (0 + (S 0 46 - S 65 0 - S 65 6 - S 65 7 - S 0 47))))) (pM G m S (up2 X 0 31 0))) ∧ (¬ 0 ≤ (S 0 46 - S 65 0 - S 65 6 - S 65 7 - S 0 47) → Q (.inl (some (tI (0 + (-(S 0 46 - S 65 0 - S 65 6 - S 65 7 - S 0 47)))))) (pM G m S (up2 X 0 31 0))))
      rw [e]
      exact ⟨by decide, fun _ => q S _ Sg.rfl' Xp.a, fun h => absurd (by decide) h⟩
    | succ r ih =>
      intro k o3 o4 o5 o6 hk
      exact r_X5_gap_9 hM ⟨by omega, by omega, fun h => by omega, fun _ => mid (S 0 38).toNat 0 k _ _ _ (by omega) (by omega) (fun o3 o4 o5 o6 => ih (k + 1) o3 o4 o5 o6 (by omega))⟩
  exact c_X5_gap hM (outer (S 0 40).toNat 0 _ _ _ _ (by omega))
