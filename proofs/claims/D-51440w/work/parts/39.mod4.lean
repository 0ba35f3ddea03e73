/-! THE MODEL'S METHODS, 4: cutting and packing -/
def liftC (U : St) (fl : Nat → Bool) (c : Nat) : St := fun f x => if f = 51 ∧ x < c ∧ fl x = true then -1 else U f x
theorem liftC_n {U : St} {fl : Nat → Bool} {n : Nat} (h : n = (U 0 47).toNat) : liftC U fl n = lifted U fl := by subst h; rfl
theorem liftC_0 {U : St} {fl : Nat → Bool} : liftC U fl 0 = U := by
  funext f x
  exact if_neg (fun q => by omega)
theorem liftC_off {U : St} {fl : Nat → Bool} {c f x : Nat} (h : f ≠ 51 ∨ c ≤ x) : liftC U fl c f x = U f x := if_neg (fun q => by omega)
theorem liftC_t {U : St} {fl : Nat → Bool} {c : Nat} (h : fl c = true) : up2 (liftC U fl c) 51 c (-1) = liftC U fl (c + 1) := by
  funext f x
  by_cases q : f = 51 ∧ x = c
  · obtain ⟨rfl, rfl⟩ := q
    rw [up2_at]
    exact (if_pos ⟨rfl, by omega, h⟩).symm
  · rw [up2_ne (by omega)]
    unfold liftC
    by_cases z : f = 51 ∧ x < c ∧ fl x = true
    · rw [if_pos z, if_pos ⟨z.1, by omega, z.2.2⟩]
    · rw [if_neg z, if_neg (fun y => z ⟨y.1, by omega, y.2.2⟩)]
theorem liftC_f {U : St} {fl : Nat → Bool} {c : Nat} (h : fl c = false) : liftC U fl (c + 1) = liftC U fl c := by
  funext f x
  unfold liftC
  by_cases z : f = 51 ∧ x < c ∧ fl x = true
  · rw [if_pos z, if_pos ⟨z.1, by omega, z.2.2⟩]
  · rw [if_neg z, if_neg (fun y => z ⟨y.1, ?_, y.2.2⟩)]
    by_cases e : x = c
    · have := y.2.2
      rw [e, h] at this
      cases this
    · omega
theorem mc_cuts {Z : ZT} {d : Nat} {G : GH} {Q : TR → GH → Prop} {m : Nat} {S X : St} {mi : Int} (hM : MOK G m) (V : Ok S) (hm : 0 ≤ mi ∧ mi < S 0 40) (q : ∀ X', Xw X X' → Q (.inl (some (tI (cuts S mi).1))) (pM G m (cuts S mi).2 X')) : TC Z (d + 6) mi_X5_cuts [tR (some m), tI mi] (pM G m S X) Q := by
  have I := V.1.1
  obtain ⟨⟨i38, i39, i40, i41, i42, i43, i44, i45, i46, i47, i55, i60⟩, irow, iwait, igrp⟩ := id I
  have loop2 : ∀ (r k c : Nat) (e : Int) (S1 X1 : St) (o : Option Value), CutI (fun c => decide (S 51 c = mi)) r k c S1 → k + r = (S 0 47).toNat → Xw X X1 → (∀ x, x < (S 0 47).toNat → X1 76 x = b2i (decide (S 51 x = mi))) → cutL (fun c => decide (S 51 c = mi)) r k c e S1 = cuts S mi →
      TW Z mi_X5_cuts (d + 6) 79 [some (tR (some m)), some (tI mi), some (tI e), some (tI (c : Int)), some (tI (S 0 47)), some (tI (k : Int)), o] [] (pM G m S1 X1) Q := by
    intro r
    induction r with
    | zero =>
      intro k c e S1 X1 o C hk hX h76 he
      have he : (e, S1) = cuts S mi := he
      have q1 := q X1 hX
      rw [← he] at q1
      exact r_X5_cuts_79 hM ⟨by omega, by omega, fun _ => q1, fun h => by omega⟩
    | succ r ih =>
      intro k c e S1 X1 o C hk hX h76 he
      have V1 := C.1
      have I1 := V1.1
      have i47 := I1.1.2.2.2.2.2.2.2.2.2.1
      have i39 := I1.1.2.1
      have i40 := I1.1.2.2.1
      have i42 := I1.1.2.2.2.2.1
      have i43 := I1.1.2.2.2.2.2.1
      have hcr := C.2.2.1
      have hv := h76 k (by omega)
      simp only [cutL] at he
      refine r_X5_cuts_79 hM ⟨by omega, by omega, fun h => by omega, fun _ => ⟨by omega, ?_⟩⟩
      simp only [Int.toNat_natCast]
      rw [hv]
      cases hf : decide (S 51 k = mi) with
      | false =>
        rw [if_pos hf] at he
        exact ⟨by decide, fun h => absurd rfl h, fun _ => ih (k + 1) (c + 1) e S1 X1 _ (C.skip hf) (by omega) hX h76 he⟩
      | true =>
        rw [if_neg (by rw [hf]; decide)] at he
        obtain ⟨hc, hm1⟩ := C.at hf
        have rr : RowR S1 c := I1.2.1 c hc
        have e1 := fromS_rng rr (by omega)
        have e2 := toS_rng rr (by omega)
        have tail : ∀ X2, Xs X1 X2 → TW Z mi_X5_cuts (d + 6) 138 [some (tR (some m)), some (tI mi), some (tI e), some (tI (c : Int)), some (tI (S 0 47)), some (tI (k : Int)), o] [tI (reroute S1 c).1] (pM G m (reroute S1 c).2 X2) Q := by
          intro X2 hX2
          have h76' : ∀ x, x < (S 0 47).toNat → X2 76 x = b2i (decide (S 51 x = mi)) := fun x hx => (hX2 76 x (by decide) (by decide) (Or.inl (by decide))).trans (h76 x hx)
          have hrr := (reroute_ok V1 C.2.1 hc hm1).2.2.2.2
          refine r_X5_cuts_138 hM ⟨?_, fun hn => ?_, fun hn => ?_⟩
          · by_cases hn : (reroute S1 c).1 = -1
            · rw [hn]; decide
            · have := (hrr hn).2.2.1; omega
          · rw [if_neg hn] at he
            refine ⟨by omega, ?_⟩
            simp only [Int.toNat_natCast]
            exact ih (k + 1) (c + 1) e (rerouted S1 c) X2 _ (C.put hf hn).1 (by omega) (hX.trans hX2.w) h76' he
          · rw [if_pos hn] at he
            obtain ⟨d1, d2, d3⟩ := C.drop hf
            exact mc_ends hM (reroute_ok V1 C.2.1 hc hm1).1.1 d2 (r_X5_cuts_151 hM (ih (k + 1) c (e + 1) _ X2 _ d1 (by omega) (hX.trans hX2.w) h76' he))
        refine ⟨by decide, fun _ => mc_fromSwitch hM I1 hc (r_X5_cuts_108 hM (mc_toSwitch hM I1 hc (r_X5_cuts_113 hM ⟨by omega, fun h => ?_, fun h => ?_⟩))), fun h => absurd h (by decide)⟩
        · have hd : decide (S1 0 42 = 1) = false := decide_eq_false h
          unfold reroute at tail
          rw [hd] at tail
          exact mc_route (chains := false) (counts := true) hM I1 V1.walk (by omega) (by omega) (by omega) (by omega) tail
        · have hd : decide (S1 0 42 = 1) = true := decide_eq_true h
          unfold reroute at tail
          rw [hd] at tail
          exact mc_route (chains := true) (counts := true) hM I1 V1.walk (by omega) (by omega) (by omega) (by omega) tail
  have e47 : ∀ c, liftC (up2 S 0 41 (ior (S 0 41) (ishl 1 mi))) (fun c => decide (S 51 c = mi)) c 0 47 = S 0 47 := fun c => (liftC_off (Or.inl (by decide))).trans (up2_ne (Or.inr (by decide)))
  have loop1 : ∀ (r c : Nat) (X1 : St) (o4 o5 o6 : Option Value), c + r = (S 0 47).toNat → Xw X X1 → (∀ x, x < c → X1 76 x = b2i (decide (S 51 x = mi))) →
      TW Z mi_X5_cuts (d + 6) 16 [some (tR (some m)), some (tI mi), some (tI 0), some (tI (c : Int)), o4, o5, o6] [] (pM G m (liftC (up2 S 0 41 (ior (S 0 41) (ishl 1 mi))) (fun c => decide (S 51 c = mi)) c) X1) Q := by
    intro r
    induction r with
    | zero =>
      intro c X1 o4 o5 o6 hc hX h76
      have ec := e47 c
      refine r_X5_cuts_16 hM ⟨by omega, by omega, fun _ => ?_, fun h => by omega⟩
      rw [ec, liftC_n (by rw [up2_ne (Or.inr (by decide))]; omega)]
      exact loop2 (S 0 47).toNat 0 0 0 _ X1 _ (cut_start V hm) (by omega) hX (fun x hx => h76 x (by omega)) rfl
    | succ r ih =>
      intro c X1 o4 o5 o6 hc hX h76
      have ec := e47 c
      have e51 : liftC (up2 S 0 41 (ior (S 0 41) (ishl 1 mi))) (fun c => decide (S 51 c = mi)) c 51 c = S 51 c := (liftC_off (Or.inr (Nat.le_refl _))).trans (up2_ne (Or.inl (by decide)))
      obtain ⟨r48, r49, r50, r51, r52, r53⟩ := irow c (by omega)
      refine r_X5_cuts_16 hM ⟨by omega, by omega, fun h => by omega, fun _ => ⟨by omega, ?_⟩⟩
      simp only [Int.toNat_natCast]
      rw [e51]
      refine ⟨by omega, by omega, fun h => ?_, fun h => ?_⟩
      · have := ih (c + 1) (up2 X1 76 c 0) o4 o5 o6 (by omega) hX.up (fun x hx => by
          by_cases ex : x = c
          · rw [ex, up2_at, decide_eq_false h]; rfl
          · rw [up2_ne (Or.inr ex)]; exact h76 x (by omega))
        rwa [liftC_f (decide_eq_false h)] at this
      · have := ih (c + 1) (up2 X1 76 c 1) o4 o5 o6 (by omega) hX.up (fun x hx => by
          by_cases ex : x = c
          · rw [ex, up2_at, decide_eq_true h]; rfl
          · rw [up2_ne (Or.inr ex)]; exact h76 x (by omega))
        rw [← liftC_t (decide_eq_true h)] at this
        exact this
  refine c_X5_cuts hM ?_
  have := loop1 (S 0 47).toNat 0 X none none none (by omega) (Xs.rfl').w (fun x hx => absurd hx (Nat.not_lt_zero _))
  rw [liftC_0] at this
  exact this
theorem callsAt_rng {S : St} {s : Int} {b : Bool} : 0 ≤ callsAtS S s b ∧ callsAtS S s b ≤ (S 0 47).toNat := sumI_rng (p := fun c => decide (endS S c b = s)) _ _
theorem mc_fewest {Z : ZT} {d : Nat} {G : GH} {Q : TR → GH → Prop} {m : Nat} {S X : St} (hM : MOK G m) (I : Rg S) (q : Q (.inl (some (tI (fewest S)))) (pM G m S X)) : TC Z (d + 3) mi_X5_fewest [tR (some m)] (pM G m S X) Q := by
  obtain ⟨⟨i38, i39, i40, i41, i42, i43, i44, i45, i46, i47, i55, i60⟩, irow, iwait, igrp⟩ := id I
  have loop : ∀ (r k : Nat) (e : Int) (o3 o4 : Option Value), k + r = (S 0 38).toNat → 0 ≤ e ∧ e ≤ 18 → fewL S r k e = fewest S → TW Z mi_X5_fewest (d + 3) 4 [some (tR (some m)), some (tI e), some (tI (k : Int)), o3, o4] [] (pM G m S X) Q := by
    intro r
    induction r with
    | zero =>
      intro k e o3 o4 hk he hf
      have hf : e = fewest S := hf
      rw [← hf] at q
      exact r_X5_fewest_4 hM ⟨by omega, by omega, fun _ => q, fun h => by omega⟩
    | succ r ih =>
      intro k e o3 o4 hk he hf
      have c1 := callsAt_rng (S := S) (s := (k : Int)) (b := false)
      have c2 := callsAt_rng (S := S) (s := (k : Int)) (b := true)
      simp only [fewL] at hf
      refine r_X5_fewest_4 hM ⟨by omega, by omega, fun h => by omega, fun _ => mc_callsAt (b := false) hM I (by omega) (r_X5_fewest_18 hM (mc_callsAt (b := true) hM I (by omega) (r_X5_fewest_25 hM ⟨by omega, by omega, fun h => ⟨by omega, fun h2 => ?_, fun h2 => ?_⟩, fun h => ⟨by omega, fun h2 => ?_, fun h2 => ?_⟩⟩)))⟩
      · exact ih (k + 1) _ _ _ (by omega) (by omega) (by rw [← hf]; congr 1; unfold maxI; split <;> split <;> omega)
      · exact ih (k + 1) _ _ _ (by omega) (by omega) (by rw [← hf]; congr 1; unfold maxI; split <;> split <;> omega)
      · exact ih (k + 1) _ _ _ (by omega) (by omega) (by rw [← hf]; congr 1; unfold maxI; split <;> split <;> omega)
      · exact ih (k + 1) _ _ _ (by omega) (by omega) (by rw [← hf]; congr 1; unfold maxI; split <;> split <;> omega)
  exact c_X5_fewest hM (loop (S 0 38).toNat 0 0 _ _ (by omega) (by omega) rfl)
theorem mc_packs {Z : ZT} {d : Nat} {G : GH} {Q : TR → GH → Prop} {m : Nat} {S X : St} (hM : MOK G m) (V : Ok S) (q : ∀ X', Xw X X' → Q (.inl (some (tI (packs S).1))) (pM G m (packs S).2 X')) : TC Z (d + 6) mi_X5_packs [tR (some m)] (pM G m S X) Q := by
  have I := V.1.1
  obtain ⟨⟨i38, i39, i40, i41, i42, i43, i44, i45, i46, i47, i55, i60⟩, irow, iwait, igrp⟩ := id I
  obtain ⟨f1, f2⟩ := few_rng V.1 V.2.1
  have io := inOrd_rng (S := S)
  have loop3 : ∀ (r c : Nat) (e : Int) (S1 X1 : St), (S1 0 47 = S 0 47) → (∀ x, x < (S 0 47).toNat → -1 ≤ S1 51 x ∧ S1 51 x < 9) → c + r = (S 0 47).toNat → Xw X X1 → (∀ x, x < (S 0 47).toNat → X1 76 x = S 51 x) → movedL (S 51) r c e S1 = packs S →
      TW Z mi_X5_packs (d + 6) 84 [some (tR (some m)), some (tI (fewest S)), some (tI e), some (tI (c : Int))] [] (pM G m S1 X1) Q := by
    intro r
    induction r with
    | zero =>
      intro c e S1 X1 h47 hr hc hX h76 he
      have he : (e, S1) = packs S := he
      have q1 := q X1 hX
      rw [← he] at q1
      exact r_X5_packs_84 hM ⟨by omega, by omega, fun _ => q1, fun h => by omega⟩
    | succ r ih =>
      intro c e S1 X1 h47 hr hc hX h76 he
      have hv := h76 c (by omega)
      have hr1 := hr c (by omega)
      obtain ⟨r48, r49, r50, r51, r52, r53⟩ := irow c (by omega)
      simp only [movedL] at he
      refine r_X5_packs_84 hM ⟨by omega, by omega, fun h => by omega, fun _ => ⟨by omega, ?_⟩⟩
      simp only [Int.toNat_natCast]
      rw [hv]
      refine ⟨by omega, by omega, fun h => ?_, fun h => ?_⟩
      · rw [if_pos h] at he
        exact ih (c + 1) e S1 X1 h47 hr (by omega) hX h76 he
      · rw [if_neg h] at he
        exact ih (c + 1) (e + 1) _ X1 ((up2_ne (Or.inl (by decide))).trans h47) (fun x hx => by rw [up2_ne (Or.inl (by decide))]; exact hr x hx) (by omega) hX h76 he
  have loop2 : ∀ (r c : Nat) (S1 X1 : St) (o : Option Value), PackI (fewest S) r c S1 → c + r = (S 0 47).toNat → Xw X X1 → (∀ x, x < (S 0 47).toNat → X1 76 x = S 51 x) → packL (fewest S) r c S1 = packL (fewest S) (S 0 47).toNat 0 (lifted S (fun _ => true)) →
      TW Z mi_X5_packs (d + 6) 42 [some (tR (some m)), some (tI (fewest S)), some (tI (c : Int)), o] [] (pM G m S1 X1) Q := by
    intro r
    induction r with
    | zero =>
      intro c S1 X1 o P hc hX h76 he
      have he : S1 = _ := he
      have e47 := P.2.1
      have i47' := P.1.1.1.2.2.2.2.2.2.2.2.2.1
      have hrow : ∀ c, c < (S1 0 47).toNat → RowR S1 c := P.1.1.2.1
      refine r_X5_packs_42 hM ⟨by omega, by omega, fun _ => ?_, fun h => by omega⟩
      exact loop3 (S 0 47).toNat 0 0 S1 X1 (by omega) (fun x hx => (hrow x (by omega)).2.2.2.1) (by omega) hX h76 (by rw [he]; rfl)
    | succ r ih =>
      intro c S1 X1 o P hc hX h76 he
      have e47 := P.2.1
      have V1 := P.1
      have I1 := V1.1
      have i47' := I1.1.2.2.2.2.2.2.2.2.2.1
      have i39' := I1.1.2.1
      have rr : RowR S1 c := I1.2.1 c (by omega)
      have e1 := fromS_rng rr (by omega)
      have e2 := toS_rng rr (by omega)
      refine r_X5_packs_42 hM ⟨by omega, by omega, fun h => by omega, fun _ => mc_fromSwitch hM I1 (by omega) (r_X5_packs_61 hM (mc_toSwitch hM I1 (by omega) (r_X5_packs_66 hM ?_)))⟩
      refine mc_route (chains := true) (counts := false) hM I1 V1.walk (by omega) (by omega) (by decide) (by omega) (fun X2 hX2 => r_X5_packs_73 hM ⟨by omega, ?_⟩)
      simp only [Int.toNat_natCast]
      exact ih (c + 1) _ X2 _ P.step.1 (by omega) (hX.trans hX2.w) (fun x hx => (hX2 76 x (by decide) (by decide) (Or.inl (by decide))).trans (h76 x hx)) he
  have loop1 : ∀ (r c : Nat) (X1 : St) (o3 : Option Value), c + r = (S 0 47).toNat → Xw X X1 → (∀ x, x < c → X1 76 x = S 51 x) →
      TW Z mi_X5_packs (d + 6) 7 [some (tR (some m)), some (tI (fewest S)), some (tI (c : Int)), o3] [] (pM G m (liftC S (fun _ => true) c) X1) Q := by
    intro r
    induction r with
    | zero =>
      intro c X1 o3 hc hX h76
      have ec : liftC S (fun _ => true) c 0 47 = S 0 47 := liftC_off (Or.inl (by decide))
      refine r_X5_packs_7 hM ⟨by omega, by omega, fun _ => ?_, fun h => by omega⟩
      rw [liftC_n (by omega)]
      exact loop2 (S 0 47).toNat 0 _ X1 _ (pack_start V) (by omega) hX (fun x hx => h76 x (by omega)) rfl
    | succ r ih =>
      intro c X1 o3 hc hX h76
      have ec : liftC S (fun _ => true) c 0 47 = S 0 47 := liftC_off (Or.inl (by decide))
      have e51 : liftC S (fun _ => true) c 51 c = S 51 c := liftC_off (Or.inr (Nat.le_refl _))
      refine r_X5_packs_7 hM ⟨by omega, by omega, fun h => by omega, fun _ => ⟨by omega, ?_⟩⟩
      simp only [Int.toNat_natCast]
      rw [e51, liftC_t rfl]
      refine ih (c + 1) _ _ (by omega) hX.up (fun x hx => ?_)
      by_cases ex : x = c
      · rw [ex, up2_at]
      · rw [up2_ne (Or.inr ex)]; exact h76 x (by omega)
  refine c_X5_packs hM (mc_fewest hM I (r_X5_packs_4 hM ?_))
  have := loop1 (S 0 47).toNat 0 X none (by omega) (Xs.rfl').w (fun x hx => absurd hx (Nat.not_lt_zero _))
  rw [liftC_0] at this
  exact this
