/-! THE MODEL'S METHODS, 7: more questions -/
theorem mp_account {Z : ZT} {d : Nat} {G : GH} {Q : TR → GH → Prop} {m : Nat} {S X : St} {w : Int} (hM : MOK G m) (hw : inR w) (q : QC G m S X (accountA S w) Q) : TC Z (d + 5) mi_X5_account [tR (some m), tI w] (pM G m S X) Q := by
  unfold accountA at q
  refine c_X5_account hM ⟨hw, fun h => ?_, fun h => ⟨fun h2 => ?_, fun h2 => ?_⟩⟩
  · rw [if_neg (by omega)] at q
    exact mc_refuse hM (r_X5_account_20 hM (q S _ Sg.rfl' Xp.b))
  · rw [if_pos (by omega)] at q
    exact ⟨by omega, q S _ Sg.rfl' Xp.a⟩
  · rw [if_neg (by omega)] at q
    exact mc_refuse hM (r_X5_account_20 hM (q S _ Sg.rfl' Xp.b))
theorem mp_subscriber {Z : ZT} {d : Nat} {G : GH} {Q : TR → GH → Prop} {m : Nat} {S X : St} {s w : Int} (hM : MOK G m) (V : Inv S) (hs : inR s) (hw : inR w) (q : QC G m S X (subscriberA S s w) Q) : TC Z (d + 5) mi_X5_subscriber [tR (some m), tI s, tI w] (pM G m S X) Q := by
  have I := V.1
  obtain ⟨⟨i38, i39, i40, i41, i42, i43, i44, i45, i46, i47, i55, i60⟩, irow, iwait, igrp⟩ := id I
  have s36 := sub36 I
  refine c_X5_subscriber hM (mc_noSubscriber hM I hs (r_X5_subscriber_10 hM ?_))
  unfold subscriberA at q
  by_cases hk : subOK S s
  · rw [decide_eq_true hk]
    rw [if_pos hk] at q
    unfold subOK at hk
    have r1 := callWith_rng (S := S) (s := s)
    have r2 := waitAt_rng (S := S) (s := s)
    refine ⟨by decide, fun _ => mc_callWith hM I hs (r_X5_subscriber_24 hM (mc_waiterPlace hM I hs (r_X5_subscriber_30 hM ⟨hw, fun h => ?_, fun h => ?_, fun h => ?_, fun h => ?_, fun h => ?_, fun h => ?_, fun h => ?_, fun h => ?_⟩))), fun h => absurd rfl h⟩
    · rw [if_neg (by omega), if_neg (by omega), if_neg (by omega), if_neg (by omega), if_neg (by omega), if_neg (by omega), if_neg (by omega)] at q
      exact mc_refuse hM (r_X5_subscriber_243 hM (q S _ Sg.rfl' Xp.b))
    all_goals subst h
    all_goals simp only [Int.reduceEq, reduceIte] at q
    · refine ⟨by omega, fun h => ⟨by omega, fun h2 => ?_, fun h2 => ?_⟩, fun h => ?_⟩
      · rw [if_pos h, if_pos h2] at q; exact q S _ Sg.rfl' Xp.a
      · rw [if_pos h, if_neg h2] at q; exact q S _ Sg.rfl' Xp.a
      · rw [if_neg h] at q; exact q S _ Sg.rfl' Xp.a
    · exact ⟨hs, by omega, by omega, q S _ Sg.rfl' Xp.a⟩
    · unfold callNum numAt at q
      refine ⟨by omega, fun h => ⟨by omega, ?_⟩, fun h => ?_⟩
      · rw [if_neg h] at q; exact q S _ Sg.rfl' Xp.a
      · rw [if_pos h] at q; exact q S _ Sg.rfl' Xp.a
    · refine ⟨by omega, fun h => ⟨by omega, ?_⟩, fun h => ?_⟩
      · obtain ⟨c, hc⟩ : ∃ n : Nat, callWith S s = (n : Int) := ⟨(callWith S s).toNat, by omega⟩
        rw [if_neg h] at q
        rw [hc] at q r1 ⊢
        simp only [Int.toNat_natCast] at q ⊢
        obtain ⟨r48, r49, -⟩ := irow c (by omega)
        refine ⟨by omega, hs, fun h2 => ?_, fun h2 => ?_⟩
        · rw [if_neg h2] at q; exact q S _ Sg.rfl' Xp.a
        · rw [if_pos h2] at q; exact q S _ Sg.rfl' Xp.a
      · rw [if_pos h] at q; exact q S _ Sg.rfl' Xp.a
    · refine ⟨by omega, fun h => ?_, fun h => ⟨by omega, ?_⟩⟩
      · rw [if_pos h] at q; exact q S _ Sg.rfl' Xp.a
      · obtain ⟨c, hc⟩ : ∃ n : Nat, callWith S s = (n : Int) := ⟨(callWith S s).toNat, by omega⟩
        rw [if_neg h] at q
        rw [hc] at q r1 ⊢
        simp only [Int.toNat_natCast] at q ⊢
        obtain ⟨r48, r49, -⟩ := irow c (by omega)
        refine ⟨by omega, hs, fun h2 => ?_, fun h2 => ?_⟩
        · rw [if_neg h2] at q; exact q S _ Sg.rfl' Xp.a
        · rw [if_pos h2] at q; exact q S _ Sg.rfl' Xp.a
    · refine ⟨by omega, fun h => ⟨by omega, ?_⟩, fun h => ?_⟩
      · rw [if_neg h] at q; exact q S _ Sg.rfl' Xp.a
      · rw [if_pos h] at q; exact q S _ Sg.rfl' Xp.a
    · have loop : ∀ (k c : Nat) (e : Int), (S 0 60).toNat = c + k → e + sumI (fun g => b2i (belongsB S s (g : Int))) k c = sumI (fun g => b2i (belongsB S s (g : Int))) (S 0 60).toNat 0 → TW Z mi_X5_subscriber (d + 5) 200 [some (tR (some m)), some (tI s), some (tI 6), some (tI (callWith S s)), some (tI (waitAt S s)), some (tI e), some (tI (c : Int))] [] (pM G m S (up2 X 0 31 0)) Q := by
        intro k
        induction k with
        | zero =>
          intro c e hc he
          rw [← he] at q
          have := q S _ Sg.rfl' Xp.a
          exact r_X5_subscriber_200 hM ⟨by omega, by omega, fun _ => by simpa [sumI] using this, fun h => by omega⟩
        | succ k ih =>
          intro c e hc he
          simp only [sumI] at he
          refine r_X5_subscriber_200 hM ⟨by omega, by omega, fun h => by omega, fun _ => mc_belongs hM V hs (by omega) (r_X5_subscriber_218 hM ?_)⟩
          cases hb : belongsB S s (c : Int) with
          | false => exact ⟨by decide, fun _ => ih (c + 1) _ (by omega) (by rw [← he, hb, b2i_f]; omega), fun h => absurd rfl h⟩
          | true => exact ⟨by decide, fun h => absurd h (by decide), fun _ => ih (c + 1) _ (by omega) (by rw [← he, hb, b2i_t]; omega)⟩
      exact loop (S 0 60).toNat 0 0 (by omega) (by omega)
  · rw [decide_eq_false hk]
    rw [if_neg hk] at q
    exact ⟨by decide, fun h => absurd h (by decide), fun _ => mc_refuse hM (r_X5_subscriber_18 hM (q S _ Sg.rfl' Xp.b))⟩
theorem mp_stage {Z : ZT} {d : Nat} {G : GH} {Q : TR → GH → Prop} {m : Nat} {S X : St} {s w : Int} (hM : MOK G m) (I : Rg S) (hs : inR s) (hw : inR w) (q : QC G m S X (stageA S s w) Q) : TC Z (d + 5) mi_X5_stage [tR (some m), tI s, tI w] (pM G m S X) Q := by
  obtain ⟨⟨i38, i39, i40, i41, i42, i43, i44, i45, i46, i47, i55, i60⟩, irow, iwait, igrp⟩ := id I
  refine c_X5_stage hM (mc_noSwitch hM I hs (r_X5_stage_10 hM ?_))
  unfold stageA at q
  by_cases hk : swOK S s
  · rw [decide_eq_true hk]
    rw [if_pos hk] at q
    unfold swOK at hk
    refine ⟨by decide, fun _ => ⟨hw, fun h => ?_, fun h => ?_, fun h => ?_, fun h => ?_, fun h => ?_, fun h => ?_, fun h => ?_⟩, fun h => absurd rfl h⟩
    · rw [if_neg (by omega), if_neg (by omega), if_neg (by omega), if_neg (by omega), if_neg (by omega), if_neg (by omega)] at q
      exact mc_refuse hM (r_X5_stage_147 hM (q S _ Sg.rfl' Xp.b))
    all_goals subst h
    all_goals simp only [Int.reduceEq, reduceIte] at q
    · exact mc_callsAt (b := false) hM I hs (r_X5_stage_66 hM (q S _ Sg.rfl' Xp.a))
    · exact mc_callsAt (b := true) hM I hs (r_X5_stage_73 hM (q S _ Sg.rfl' Xp.a))
    · exact mc_idleAt hM I (by omega) (r_X5_stage_79 hM (q S _ Sg.rfl' Xp.a))
    · have loop : ∀ (k c : Nat) (e : Int), (S 0 47).toNat = c + k → e + sumI (fun c => b2i (decide (fromS S c = s) && decide (toS S c = s))) k c = sumI (fun c => b2i (decide (fromS S c = s) && decide (toS S c = s))) (S 0 47).toNat 0 → TW Z mi_X5_stage (d + 5) 83 [some (tR (some m)), some (tI s), some (tI 3), some (tI e), some (tI (c : Int))] [] (pM G m S (up2 X 0 31 0)) Q := by
        intro k
        induction k with
        | zero =>
          intro c e hc he
          rw [← he] at q
          have := q S _ Sg.rfl' Xp.a
          exact r_X5_stage_83 hM ⟨by omega, by omega, fun _ => by simpa [sumI] using this, fun h => by omega⟩
        | succ k ih =>
          intro c e hc he
          have rr := irow c (by omega)
          have e1 := fromS_rng rr (by omega)
          have e2 := toS_rng rr (by omega)
          simp only [sumI] at he
          refine r_X5_stage_83 hM ⟨by omega, by omega, fun h => by omega, fun _ => mc_fromSwitch hM I (by omega) (r_X5_stage_99 hM ⟨by omega, hs, fun h => ?_, fun h => mc_toSwitch hM I (by omega) (r_X5_stage_109 hM ⟨by omega, hs, fun h2 => ?_, fun h2 => ?_⟩)⟩)⟩
          · exact ih (c + 1) _ (by omega) (by rw [← he, decide_eq_false h, Bool.false_and, b2i_f]; omega)
          · exact ih (c + 1) _ (by omega) (by rw [← he, decide_eq_false h2, Bool.and_false, b2i_f]; omega)
          · exact ih (c + 1) _ (by omega) (by rw [← he, decide_eq_true h, decide_eq_true h2, Bool.true_and, b2i_t]; omega)
      exact loop (S 0 47).toNat 0 0 (by omega) (by omega)
    · exact mc_freeAt (b := false) hM I hs (r_X5_stage_134 hM (q S _ Sg.rfl' Xp.a))
    · exact mc_freeAt (b := true) hM I hs (r_X5_stage_141 hM (q S _ Sg.rfl' Xp.a))
  · rw [decide_eq_false hk]
    rw [if_neg hk] at q
    exact ⟨by decide, fun h => absurd h (by decide), fun _ => mc_refuse hM (r_X5_stage_18 hM (q S _ Sg.rfl' Xp.b))⟩
theorem mp_middle {Z : ZT} {d : Nat} {G : GH} {Q : TR → GH → Prop} {m : Nat} {S X : St} {k w : Int} (hM : MOK G m) (I : Rg S) (hs : inR k) (hw : inR w) (q : QC G m S X (middleA S k w) Q) : TC Z (d + 5) mi_X5_middle [tR (some m), tI k, tI w] (pM G m S X) Q := by
  obtain ⟨⟨i38, i39, i40, i41, i42, i43, i44, i45, i46, i47, i55, i60⟩, irow, iwait, igrp⟩ := id I
  refine c_X5_middle hM (mc_noMiddle hM I hs (r_X5_middle_10 hM ?_))
  unfold middleA at q
  by_cases hk : midOK S k
  · rw [decide_eq_true hk]
    rw [if_pos hk] at q
    refine ⟨by decide, fun _ => ⟨hw, fun h => ?_, fun h => ?_, fun h => ?_, fun h => ?_⟩, fun h => absurd rfl h⟩
    · rw [if_neg (by omega), if_neg (by omega), if_neg (by omega)] at q
      exact mc_refuse hM (r_X5_middle_108 hM (q S _ Sg.rfl' Xp.b))
    all_goals subst h
    all_goals simp only [Int.reduceEq, reduceIte] at q
    · refine mc_isCut hM (r_X5_middle_53 hM ?_)
      cases hb : isCutB S k with
      | false => rw [hb] at q; exact ⟨by decide, fun _ => q S _ Sg.rfl' Xp.a, fun h => absurd rfl h⟩
      | true => rw [hb] at q; exact ⟨by decide, fun h => absurd h (by decide), fun _ => q S _ Sg.rfl' Xp.a⟩
    · exact mc_loadOf hM I hs (r_X5_middle_67 hM (q S _ Sg.rfl' Xp.a))
    · have loop : ∀ (r c : Nat), (S 0 47).toNat = c + r → fnd (fun c => decide (S 51 c = k)) (S 0 47).toNat 0 = fnd (fun c => decide (S 51 c = k)) r c → TW Z mi_X5_middle (d + 5) 70 [some (tR (some m)), some (tI k), some (tI 2), some (tI (c : Int))] [] (pM G m S (up2 X 0 31 0)) Q := by
        intro r
        induction r with
        | zero =>
          intro c hc he
          rw [he] at q
          exact r_X5_middle_70 hM ⟨by omega, by omega, fun _ => q S _ Sg.rfl' Xp.a, fun h => by omega⟩
        | succ r ih =>
          intro c hc he
          obtain ⟨r48, r49, r50, r51, -⟩ := irow c (by omega)
          simp only [fnd] at he
          refine r_X5_middle_70 hM ⟨by omega, by omega, fun h => by omega, fun _ => ⟨by omega, ?_⟩⟩
          simp only [Int.toNat_natCast]
          refine ⟨by omega, hs, fun h => ?_, fun h => ?_⟩
          · rw [if_neg (by simpa using h)] at he
            exact ih (c + 1) (by omega) he
          · rw [if_pos (decide_eq_true h)] at he
            rw [he] at q
            unfold numAt at q
            rw [if_neg (by omega)] at q
            exact q S _ Sg.rfl' Xp.a
      exact loop (S 0 47).toNat 0 (by omega) rfl
  · rw [decide_eq_false hk]
    rw [if_neg hk] at q
    exact ⟨by decide, fun h => absurd h (by decide), fun _ => mc_refuse hM (r_X5_middle_18 hM (q S _ Sg.rfl' Xp.b))⟩
theorem mp_carried {Z : ZT} {d : Nat} {G : GH} {Q : TR → GH → Prop} {m : Nat} {S X : St} {k s : Int} {b : Bool} (hM : MOK G m) (I : Rg S) (hk : inR k) (hs : inR s) (q : QC G m S X (carriedA S k s b) Q) : TC Z (d + 5) mi_X5_carried [tR (some m), tI k, tI s, tI (b2i b)] (pM G m S X) Q := by
  obtain ⟨⟨i38, i39, i40, i41, i42, i43, i44, i45, i46, i47, i55, i60⟩, irow, iwait, igrp⟩ := id I
  have cr := carriedAt_rng (S := S) (m := k) (s := s) (b := b)
  refine c_X5_carried hM (mc_noMiddle hM I hk (r_X5_carried_10 hM ?_))
  unfold carriedA at q
  by_cases h1 : midOK S k
  · rw [decide_eq_true h1]
    refine ⟨by decide, fun h => absurd rfl h, fun _ => mc_noSwitch hM I hs (r_X5_carried_18 hM ?_)⟩
    by_cases h2 : swOK S s
    · rw [decide_eq_true h2]
      rw [if_pos ⟨h1, h2⟩] at q
      unfold numAt at q
      refine ⟨by decide, fun _ => mc_carriedAt hM I hk hs (r_X5_carried_34 hM ⟨by omega, fun h => ⟨by omega, ?_⟩, fun h => ?_⟩), fun h => absurd rfl h⟩
      · rw [if_neg h] at q; exact q S _ Sg.rfl' Xp.a
      · rw [if_pos h] at q; exact q S _ Sg.rfl' Xp.a
    · rw [decide_eq_false h2]
      rw [if_neg (fun z => h2 z.2)] at q
      exact ⟨by decide, fun h => absurd h (by decide), fun _ => mc_refuse hM (r_X5_carried_26 hM (q S _ Sg.rfl' Xp.b))⟩
  · rw [decide_eq_false h1]
    rw [if_neg (fun z => h1 z.1)] at q
    exact ⟨by decide, fun _ => mc_refuse hM (r_X5_carried_26 hM (q S _ Sg.rfl' Xp.b)), fun h => absurd h (by decide)⟩
theorem mp_callOf {Z : ZT} {d : Nat} {G : GH} {Q : TR → GH → Prop} {m : Nat} {S X : St} {n w : Int} (hM : MOK G m) (I : Rg S) (hn : inR n) (hw : inR w) (q : QC G m S X (callOfA S n w) Q) : TC Z (d + 5) mi_X5_callOf [tR (some m), tI n, tI w] (pM G m S X) Q := by
  obtain ⟨⟨i38, i39, i40, i41, i42, i43, i44, i45, i46, i47, i55, i60⟩, irow, iwait, igrp⟩ := id I
  have loop : ∀ (r c : Nat), (S 0 47).toNat = c + r → numFnd S n = fnd (fun c => decide (S 48 c = n)) r c → TW Z mi_X5_callOf (d + 5) 7 [some (tR (some m)), some (tI n), some (tI w), some (tI (c : Int))] [] (pM G m S (up2 X 0 31 0)) Q := by
    intro r
    induction r with
    | zero =>
      intro c hc he
      have he : numFnd S n = -1 := he
      unfold callOfA at q
      rw [if_pos he] at q
      exact r_X5_callOf_7 hM ⟨by omega, by omega, fun _ => ⟨fun h => by omega, fun _ => mc_refuse hM (r_X5_callOf_44 hM (q S _ Sg.rfl' Xp.b))⟩, fun h => by omega⟩
    | succ r ih =>
      intro c hc he
      obtain ⟨r48, r49, r50, r51, r52, r53⟩ := irow c (by omega)
      simp only [fnd] at he
      refine r_X5_callOf_7 hM ⟨by omega, by omega, fun h => by omega, fun _ => ⟨by omega, ?_⟩⟩
      simp only [Int.toNat_natCast]
      refine ⟨by omega, hn, fun h => ?_, fun h => ?_⟩
      · rw [if_pos (decide_eq_true h)] at he
        unfold callOfA at q
        rw [he, if_neg (by omega)] at q
        simp only [Int.toNat_natCast] at q
        refine ⟨fun _ => ⟨hw, fun h => ?_, fun h => ?_, fun h => ?_, fun h => ?_, fun h => ?_, fun h => ?_, fun h => ?_, fun h => ?_⟩, fun h => by omega⟩
        · rw [if_neg (by omega), if_neg (by omega), if_neg (by omega), if_neg (by omega), if_neg (by omega), if_neg (by omega), if_neg (by omega)] at q
          exact mc_refuse hM (r_X5_callOf_167 hM (q S _ Sg.rfl' Xp.b))
        all_goals subst h
        all_goals simp only [Int.reduceEq, reduceIte] at q
        · exact q S _ Sg.rfl' Xp.a
        · exact q S _ Sg.rfl' Xp.a
        · exact q S _ Sg.rfl' Xp.a
        · exact q S _ Sg.rfl' Xp.a
        · exact q S _ Sg.rfl' Xp.a
        · exact q S _ Sg.rfl' Xp.a
        · refine ⟨by omega, fun h => ?_, fun h => ?_⟩
          · rw [if_neg h] at q; exact q S _ Sg.rfl' Xp.a
          · rw [if_pos h] at q; exact q S _ Sg.rfl' Xp.a
      · rw [if_neg (by simpa using h)] at he
        exact ih (c + 1) (by omega) he
  exact c_X5_callOf hM (loop (S 0 47).toNat 0 (by omega) rfl)
theorem mp_callAt {Z : ZT} {d : Nat} {G : GH} {Q : TR → GH → Prop} {m : Nat} {S X : St} {p : Int} (hM : MOK G m) (I : Rg S) (hp : inR p) (q : QC G m S X (0, callAtA S p) Q) : TC Z (d + 5) mi_X5_callAt [tR (some m), tI p] (pM G m S X) Q := by
  obtain ⟨⟨i38, i39, i40, i41, i42, i43, i44, i45, i46, i47, i55, i60⟩, irow, iwait, igrp⟩ := id I
  unfold callAtA at q
  refine c_X5_callAt hM ⟨hp, fun h => ?_, fun h => ⟨by omega, fun h2 => ?_, fun h2 => ?_⟩⟩
  · rw [if_neg (by omega)] at q; exact q S _ Sg.rfl' Xp.a
  · rw [if_pos (by omega)] at q; exact ⟨by omega, q S _ Sg.rfl' Xp.a⟩
  · rw [if_neg (by omega)] at q; exact q S _ Sg.rfl' Xp.a
theorem mp_group {Z : ZT} {d : Nat} {G : GH} {Q : TR → GH → Prop} {m : Nat} {S X : St} {g w : Int} (hM : MOK G m) (V : Inv S) (hs : inR g) (hw : inR w) (q : QC G m S X (groupA S g w) Q) : TC Z (d + 5) mi_X5_group [tR (some m), tI g, tI w] (pM G m S X) Q := by
  have I := V.1
  obtain ⟨⟨i38, i39, i40, i41, i42, i43, i44, i45, i46, i47, i55, i60⟩, irow, iwait, igrp⟩ := id I
  refine c_X5_group hM (mc_noGroup hM I hs (r_X5_group_10 hM ?_))
  unfold groupA at q
  by_cases hk : grpOK S g
  · rw [decide_eq_true hk]
    rw [if_pos hk] at q
    unfold grpOK at hk
    obtain ⟨g1, g2, g3, g4⟩ := igrp g.toNat (by omega)
    refine ⟨by decide, fun _ => ⟨hw, fun h => ?_, fun h => ?_, fun h => ?_, fun h => ?_, fun h => ?_⟩, fun h => absurd rfl h⟩
    · rw [if_neg (by omega), if_neg (by omega), if_neg (by omega), if_neg (by omega)] at q
      exact mc_refuse hM (r_X5_group_159 hM (q S _ Sg.rfl' Xp.b))
    all_goals subst h
    all_goals simp only [Int.reduceEq, reduceIte] at q
    · exact ⟨by omega, q S _ Sg.rfl' Xp.a⟩
    · have loop : ∀ (k c : Nat) (e : Int), (S 63 g.toNat).toNat = c + k → e + sumI (fun k => b2i (idleB S (S 64 (g * 8 + (k : Int)).toNat))) k c = sumI (fun k => b2i (idleB S (S 64 (g * 8 + (k : Int)).toNat))) (S 63 g.toNat).toNat 0 → TW Z mi_X5_group (d + 5) 62 [some (tR (some m)), some (tI g), some (tI 1), some (tI e), some (tI (c : Int))] [] (pM G m S (up2 X 0 31 0)) Q := by
        intro k
        induction k with
        | zero =>
          intro c e hc he
          rw [← he] at q
          have := q S _ Sg.rfl' Xp.a
          exact r_X5_group_62 hM ⟨by omega, by omega, by omega, fun _ => by simpa [sumI] using this, fun h => by omega⟩
        | succ k ih =>
          intro c e hc he
          have ms := mem_rng V hk (k := c) (by omega)
          simp only [sumI] at he
          refine r_X5_group_62 hM ⟨by omega, by omega, by omega, fun h => by omega, fun _ => ⟨by omega, mc_isIdle hM I (by omega) (r_X5_group_90 hM ?_)⟩⟩
          cases hb : idleB S (S 64 (g * 8 + (c : Int)).toNat) with
          | false => exact ⟨by decide, fun _ => ih (c + 1) _ (by omega) (by rw [← he, hb, b2i_f]; omega), fun h => absurd rfl h⟩
          | true => exact ⟨by decide, fun h => absurd h (by decide), fun _ => ih (c + 1) _ (by omega) (by rw [← he, hb, b2i_t]; omega)⟩
      exact loop (S 63 g.toNat).toNat 0 0 (by omega) (by omega)
    · have loop : ∀ (k c : Nat) (e : Int), (S 0 55).toNat = c + k → e + sumI (fun x => b2i (decide (S 57 x = g))) k c = sumI (fun x => b2i (decide (S 57 x = g))) (S 0 55).toNat 0 → TW Z mi_X5_group (d + 5) 111 [some (tR (some m)), some (tI g), some (tI 2), some (tI e), some (tI (c : Int))] [] (pM G m S (up2 X 0 31 0)) Q := by
        intro k
        induction k with
        | zero =>
          intro c e hc he
          rw [← he] at q
          have := q S _ Sg.rfl' Xp.a
          exact r_X5_group_111 hM ⟨by omega, by omega, fun _ => by simpa [sumI] using this, fun h => by omega⟩
        | succ k ih =>
          intro c e hc he
          obtain ⟨w56, w57, w58, w59⟩ := iwait c (by omega)
          simp only [sumI] at he
          refine r_X5_group_111 hM ⟨by omega, by omega, fun h => by omega, fun _ => ⟨by omega, ?_⟩⟩
          simp only [Int.toNat_natCast]
          refine ⟨by omega, by omega, fun h => ?_, fun h => ?_⟩
          · exact ih (c + 1) _ (by omega) (by rw [← he, decide_eq_false h, b2i_f]; omega)
          · exact ih (c + 1) _ (by omega) (by rw [← he, decide_eq_true h, b2i_t]; omega)
      exact loop (S 0 55).toNat 0 0 (by omega) (by omega)
    · exact ⟨by omega, q S _ Sg.rfl' Xp.a⟩
  · rw [decide_eq_false hk]
    rw [if_neg hk] at q
    exact ⟨by decide, fun h => absurd h (by decide), fun _ => mc_refuse hM (r_X5_group_18 hM (q S _ Sg.rfl' Xp.b))⟩
theorem mp_member {Z : ZT} {d : Nat} {G : GH} {Q : TR → GH → Prop} {m : Nat} {S X : St} {g i : Int} (hM : MOK G m) (I : Rg S) (hs : inR g) (hw : inR i) (q : QC G m S X (memberA S g i) Q) : TC Z (d + 5) mi_X5_member [tR (some m), tI g, tI i] (pM G m S X) Q := by
  obtain ⟨⟨i38, i39, i40, i41, i42, i43, i44, i45, i46, i47, i55, i60⟩, irow, iwait, igrp⟩ := id I
  refine c_X5_member hM (mc_noGroup hM I hs (r_X5_member_10 hM ?_))
  unfold memberA at q
  by_cases hk : grpOK S g
  · rw [decide_eq_true hk]
    rw [if_pos hk] at q
    unfold grpOK at hk
    obtain ⟨g1, g2, g3, g4⟩ := igrp g.toNat (by omega)
    refine ⟨by decide, fun _ => ⟨hw, fun h => ?_, fun h => ⟨by omega, by omega, fun h2 => ⟨by omega, ?_⟩, fun h2 => ?_⟩⟩, fun h => absurd rfl h⟩
    · rw [if_neg (by omega)] at q; exact q S _ Sg.rfl' Xp.a
    · rw [if_pos (by omega)] at q; exact q S _ Sg.rfl' Xp.a
    · rw [if_neg (by omega)] at q; exact q S _ Sg.rfl' Xp.a
  · rw [decide_eq_false hk]
    rw [if_neg hk] at q
    exact ⟨by decide, fun h => absurd h (by decide), fun _ => mc_refuse hM (r_X5_member_18 hM (q S _ Sg.rfl' Xp.b))⟩
theorem mp_waiting {Z : ZT} {d : Nat} {G : GH} {Q : TR → GH → Prop} {m : Nat} {S X : St} {p w : Int} (hM : MOK G m) (I : Rg S) (hp : inR p) (hw : inR w) (q : QC G m S X (waitingA S p w) Q) : TC Z (d + 5) mi_X5_waiting [tR (some m), tI p, tI w] (pM G m S X) Q := by
  obtain ⟨⟨i38, i39, i40, i41, i42, i43, i44, i45, i46, i47, i55, i60⟩, irow, iwait, igrp⟩ := id I
  unfold waitingA at q
  refine c_X5_waiting hM ⟨hp, fun h => ?_, fun h => ⟨by omega, fun h2 => ⟨hw, fun h => ?_, fun h => ?_, fun h => ?_, fun h => ?_, fun h => ?_⟩, fun h2 => ?_⟩⟩
  · rw [if_neg (by omega)] at q
    exact mc_refuse hM (r_X5_waiting_22 hM (q S _ Sg.rfl' Xp.b))
  · rw [if_pos (by omega), if_neg (by omega), if_neg (by omega), if_neg (by omega), if_neg (by omega)] at q
    exact mc_refuse hM (r_X5_waiting_89 hM (q S _ Sg.rfl' Xp.b))
  · rw [if_pos (by omega), if_pos h] at q; exact ⟨by omega, q S _ Sg.rfl' Xp.a⟩
  · rw [if_pos (by omega), if_neg (by omega), if_pos h] at q; exact ⟨by omega, q S _ Sg.rfl' Xp.a⟩
  · rw [if_pos (by omega), if_neg (by omega), if_neg (by omega), if_pos h] at q; exact ⟨by omega, q S _ Sg.rfl' Xp.a⟩
  · rw [if_pos (by omega), if_neg (by omega), if_neg (by omega), if_neg (by omega), if_pos h] at q; exact ⟨by omega, q S _ Sg.rfl' Xp.a⟩
  · rw [if_neg (by omega)] at q
    exact mc_refuse hM (r_X5_waiting_22 hM (q S _ Sg.rfl' Xp.b))
theorem mp_open {Z : ZT} {d : Nat} {G : GH} {Q : TR → GH → Prop} {m : Nat} {S X : St} {i j : Int} (hM : MOK G m) (I : Rg S) (hi : inR i) (hj : inR j) (q : QC G m S X (openA S i j) Q) : TC Z (d + 5) mi_X5_open [tR (some m), tI i, tI j] (pM G m S X) Q := by
  obtain ⟨⟨i38, i39, i40, i41, i42, i43, i44, i45, i46, i47, i55, i60⟩, irow, iwait, igrp⟩ := id I
  refine c_X5_open hM (mc_noSwitch hM I hi (r_X5_open_10 hM ?_))
  unfold openA at q
  by_cases h1 : swOK S i
  · rw [decide_eq_true h1]
    refine ⟨by decide, fun h => absurd rfl h, fun _ => mc_noSwitch hM I hj (r_X5_open_18 hM ?_)⟩
    by_cases h2 : swOK S j
    · rw [decide_eq_true h2]
      rw [if_pos ⟨h1, h2⟩] at q
      have loop : ∀ (k c : Nat) (e : Int), (S 0 40).toNat = c + k → e + sumI (fun k => b2i (isOpenB S (k : Int) i j (S 0 40))) k c = sumI (fun k => b2i (isOpenB S (k : Int) i j (S 0 40))) (S 0 40).toNat 0 → TW Z mi_X5_open (d + 5) 32 [some (tR (some m)), some (tI i), some (tI j), some (tI e), some (tI (c : Int))] [] (pM G m S (up2 X 0 31 0)) Q := by
        intro k
        induction k with
        | zero =>
          intro c e hc he
          rw [← he] at q
          have := q S _ Sg.rfl' Xp.a
          exact r_X5_open_32 hM ⟨by omega, by omega, fun _ => by simpa [sumI] using this, fun h => by omega⟩
        | succ k ih =>
          intro c e hc he
          simp only [sumI] at he
          refine r_X5_open_32 hM ⟨by omega, by omega, fun h => by omega, fun _ => mc_isOpen hM I (by omega) hi hj (by omega) (r_X5_open_54 hM ?_)⟩
          cases hb : isOpenB S (c : Int) i j (S 0 40) with
          | false => exact ⟨by decide, fun _ => ih (c + 1) _ (by omega) (by rw [← he, hb, b2i_f]; omega), fun h => absurd rfl h⟩
          | true => exact ⟨by decide, fun h => absurd h (by decide), fun _ => ih (c + 1) _ (by omega) (by rw [← he, hb, b2i_t]; omega)⟩
      exact ⟨by decide, fun _ => loop (S 0 40).toNat 0 0 (by omega) (by omega), fun h => absurd rfl h⟩
    · rw [decide_eq_false h2]
      rw [if_neg (fun z => h2 z.2)] at q
      exact ⟨by decide, fun h => absurd h (by decide), fun _ => mc_refuse hM (r_X5_open_26 hM (q S _ Sg.rfl' Xp.b))⟩
  · rw [decide_eq_false h1]
    rw [if_neg (fun z => h1 z.1)] at q
    exact ⟨by decide, fun _ => mc_refuse hM (r_X5_open_26 hM (q S _ Sg.rfl' Xp.b)), fun h => absurd h (by decide)⟩
theorem mp_chain {Z : ZT} {d : Nat} {G : GH} {Q : TR → GH → Prop} {m : Nat} {S X : St} {i j w : Int} (hM : MOK G m) (V : Inv S) (hi : inR i) (hj : inR j) (hw : inR w) (q : QC G m S X (chainA S i j w) Q) : TC Z (d + 5) mi_X5_chain [tR (some m), tI i, tI j, tI w] (pM G m S X) Q := by
  have I := V.1
  obtain ⟨⟨i38, i39, i40, i41, i42, i43, i44, i45, i46, i47, i55, i60⟩, irow, iwait, igrp⟩ := id I
  refine c_X5_chain hM (mc_noSwitch hM I hi (r_X5_chain_10 hM ?_))
  unfold chainA at q
  by_cases h1 : swOK S i
  · rw [decide_eq_true h1]
    refine ⟨by decide, fun h => absurd rfl h, fun _ => mc_noSwitch hM I hj (r_X5_chain_18 hM ?_)⟩
    by_cases h2 : swOK S j
    · rw [decide_eq_true h2]
      rw [if_pos ⟨h1, h2⟩] at q
      refine ⟨by decide, fun _ => ⟨hw, fun h => ?_, fun h => ⟨fun h3 => ?_, fun h3 => ?_⟩⟩, fun h => absurd rfl h⟩
      · rw [if_neg (by omega)] at q
        exact mc_refuse hM (r_X5_chain_41 hM (q S _ Sg.rfl' Xp.b))
      · rw [if_pos (by omega)] at q
        unfold chainOr at q
        have hr := hunted_rng I (i := i) (j := j) (rule := 0) (low := S 0 40)
        refine mc_hunted hM I hi hj (by decide) (by omega) (r_X5_chain_53 hM ⟨by omega, fun h4 => ?_, fun h4 => ?_⟩)
        · rw [if_neg h4] at q
          exact q S _ Sg.rfl' Xp.a
        · rw [if_pos h4] at q
          refine mc_findChain hM I hi hj (by omega) (V.walk i j _ (hunted_none I h4)) (fun X1 hX1 hR => r_X5_chain_67 hM ?_)
          cases hc : chain S i j (S 0 40) with
          | none =>
            rw [hc] at q
            exact ⟨by decide, fun h => absurd rfl h, fun _ => q S _ Sg.rfl' (Xp.s hX1)⟩
          | some c =>
            rw [hc] at q hR
            obtain ⟨x1, x2, x3, x4, x5, x6, x7⟩ := hR
            have x70 := x7 0 x2
            have hlt : c.1[0] < (S 0 47).toNat := by
              have g := chain_good hc
              obtain ⟨l, p, qq, f⟩ := c
              obtain ⟨-, -, -, -, -, -, hwk⟩ := g
              simp only at hwk x2 ⊢
              subst hwk
              exact walkS_mem _ (List.getElem_mem x2)
            refine show inR 1 ∧ ((¬ (1 : Int) = 0 → _) ∧ ((1 : Int) = 0 → _)) from ⟨by decide, fun _ => ⟨hw, fun h => ⟨?_, ?_⟩, fun h => ?_, fun h => ?_, fun h => ?_, fun h => ⟨?_, fun h5 => ?_, fun h5 => ?_⟩⟩, fun h => absurd h (by decide)⟩
            · show 0 ≤ X1 70 0 ∧ X1 70 0 < 20
              rw [x70]; omega
            · have hw4 : w = 4 := by omega
              subst hw4
              simp only [Int.reduceEq, reduceIte] at q
              rw [List.getD_eq_getElem?_getD, List.getElem?_eq_getElem x2] at q
              have := q S _ Sg.rfl' (Xp.s hX1)
              show Q (.inl (some (tI (S 48 (Int.toNat (X1 70 0)))))) _
              rw [x70, Int.toNat_natCast]
              exact this
            · subst h; simp only [reduceIte] at q; rw [x1]; exact q S _ Sg.rfl' (Xp.s hX1)
            · subst h; simp only [Int.reduceEq, reduceIte] at q; rw [x4]; exact q S _ Sg.rfl' (Xp.s hX1)
            · subst h; simp only [Int.reduceEq, reduceIte] at q; rw [x5]; exact q S _ Sg.rfl' (Xp.s hX1)
            · rw [x6]; have := b2i_rng c.2.2.2; omega
            · subst h
              simp only [Int.reduceEq, reduceIte] at q
              have hb : c.2.2.2 = false := by rw [x6] at h5; cases hb : c.2.2.2 <;> simp [hb, b2i] at h5 ⊢
              unfold chMid at q
              rw [hb] at q
              rw [x5]
              exact q S _ Sg.rfl' (Xp.s hX1)
            · subst h
              simp only [Int.reduceEq, reduceIte] at q
              have hb : c.2.2.2 = true := by rw [x6] at h5; cases hb : c.2.2.2 <;> simp [hb, b2i] at h5 ⊢
              unfold chMid at q
              rw [hb] at q
              rw [x4]
              exact q S _ Sg.rfl' (Xp.s hX1)
      · rw [if_neg (by omega)] at q
        exact mc_refuse hM (r_X5_chain_41 hM (q S _ Sg.rfl' Xp.b))
    · rw [decide_eq_false h2]
      rw [if_neg (fun z => h2 z.2)] at q
      exact ⟨by decide, fun h => absurd h (by decide), fun _ => mc_refuse hM (r_X5_chain_26 hM (q S _ Sg.rfl' Xp.b))⟩
  · rw [decide_eq_false h1]
    rw [if_neg (fun z => h1 z.1)] at q
    exact ⟨by decide, fun _ => mc_refuse hM (r_X5_chain_26 hM (q S _ Sg.rfl' Xp.b)), fun h => absurd h (by decide)⟩
