/-! THE EXCHANGE, 16: members, calling, dialling -/
section CALL
variable {Z : ZT} {d : Nat} {G : GH} {Q : TR → GH → Prop} {e b : Nat} {S S' T T' : St}
theorem EnvE.ask {G' : GH} (h : EnvE Z G) (R : Rep Z G e b S T) (m : Md (fun c => c = b + 9) G G') : EnvE Z G' := h.md m (fp9 R.1)
theorem xc_blk {i j : Nat} (V : Inv S) (R : Rep Z G e b S S) (E : EnvE Z G) (hi : (i : Int) < S 0 38) (hj : (j : Int) < S 0 38)
    (qq : ∀ G', Md (fun c => c = b + 9) G G' → gn G' ≤ gn G + 486 → gs G' ≤ gs G + 2754 → (blockedB S (i : Int) (j : Int) = true → gn G' = gn G ∧ gs G' = gs G) → Q (.inl (some (tI (b2i (blockedB S (i : Int) (j : Int)))))) G') :
    TC Z (d + 11) mi_X2_isBlocked [tR (some e), tI (i : Int), tI (j : Int)] G Q := xc_isBlocked V R E.1 E.2.1 E.2.2.1 E.2.2.2 hi hj qq
/-- a group's member to be called -/
theorem xc_member {a g fr : Nat} {chk : Bool} (V : Inv S) (R : Rep Z G e b S S) (E : EnvE Z G) (GO : GroupO Z G a S g) (hg : g < (S 0 60).toNat) (hfr : (fr : Int) < S 0 38 * S 0 39)
    (qq : ∀ G' r, Md (fun c => c = b + 9) G G' → gn G' ≤ gn G + 486 → gs G' ≤ gs G + 2754 → (r = -1 ∨ chk = false → gn G' = gn G ∧ gs G' = gs G) → r = memL S (fr : Int) (g : Int) chk (S 63 g).toNat 0 → Q (.inl (some (tI r))) G') :
    TC Z (d + 12) mi_X2_member [tR (some e), tR (some a), tI (fr : Int), tI ((chk.toNat : Nat) : Int)] G Q := by
  have s36 := sub36 V.1
  have gr := V.1.2.2.2 g hg
  have gl := fun k hk => V.2.2.2.2.2.2.2.2.2.2.2.1 g k hg hk
  have gok := fun k hk => gr.2.2.2 k hk
  have hl8 := gr.2.2.1
  have loop : ∀ (r k : Nat) (G1 : GH) (o5 : Option Value), k + r = (S 63 g).toNat → Md (fun c => c = b + 9) G G1 → gn G1 = gn G → gs G1 = gs G → memL S (fr : Int) (g : Int) chk r k = memL S (fr : Int) (g : Int) chk (S 63 g).toNat 0 →
      TW Z mi_X2_member (d + 12) 3 [some (tR (some e)), some (tR (some a)), some (tI (fr : Int)), some (tI ((chk.toNat : Nat) : Int)), some (tI (k : Int)), o5] [] G1 Q := by
    intro r
    induction r with
    | zero =>
      intro k G1 o5 hk m n1 s1 hf
      obtain ⟨a1, a2, a3, s, l, ml, a4, a5, a6, a7, a8, a9, a10, a11, a12⟩ := GO.md m (fp9 R.1)
      exact r_X2_member_3 ⟨a, rfl, a1, fun v3 hv3 => ⟨l, hv3.symm.trans a8, a9.1, jc_size a9 (r_X2_member_14 ⟨by omega, by omega, fun _ => qq G1 (-1) m (by omega) (by omega) (fun _ => ⟨n1, s1⟩) hf, fun hn => by omega⟩)⟩⟩
    | succ r ih =>
      intro k G1 o5 hk m n1 s1 hf
      obtain ⟨a1, a2, a3, s, l, ml, a4, a5, a6, a7, a8, a9, a10, a11, a12⟩ := GO.md m (fp9 R.1)
      obtain ⟨R1, -, cA1⟩ := R.m9 m
      have hkl : k < ml.length := by omega
      have io := a12 k hkl
      obtain ⟨mm, hmm⟩ : ∃ mm : Nat, S 64 (8 * g + k) = (mm : Int) := ⟨(S 64 (8 * g + k)).toNat, by have := (gok k (by omega)).1; omega⟩
      have hm := gl k (by omega)
      rw [hmm] at hm io
      have e64 : S 64 ((g : Int) * 8 + (k : Int)).toNat = (mm : Int) := by rw [← hmm]; congr 1; omega
      have st : memL S (fr : Int) (g : Int) chk (r + 1) k = if memOK S (fr : Int) (mm : Int) chk = true then (mm : Int) else memL S (fr : Int) (g : Int) chk r (k + 1) := by rw [memL, e64]
      rw [st] at hf
      have nope : memOK S (fr : Int) (mm : Int) chk = false → ∀ (G2 : GH) (o5 : Option Value), Md (fun c => c = b + 9) G1 G2 → gn G2 = gn G1 → gs G2 = gs G1 → TW Z mi_X2_member (d + 12) 3 [some (tR (some e)), some (tR (some a)), some (tI (fr : Int)), some (tI ((chk.toNat : Nat) : Int)), some (tI ((k : Int) + 1)), o5] [] G2 Q := fun hno G2 o5 m2 n2 s2 => by
        rw [hno, if_neg (by decide)] at hf
        exact ih (k + 1) G2 o5 (by omega) (m.trans m2) (by omega) (by omega) hf
      refine r_X2_member_3 ⟨a, rfl, a1, fun v3 hv3 => ⟨l, hv3.symm.trans a8, a9.1, jc_size a9 (r_X2_member_14 ⟨by omega, by omega, fun hn => by omega, fun _ => ⟨a, rfl, a1, fun v4 hv4 => ⟨l, hv4.symm.trans a8, a9.1, jc_get (d := d + 8) a9 hkl (r_X2_member_28 ⟨fun b' hb' => by cases hb'; exact io.1, _, rfl, io.1, jc_intValue io (r_X2_member_34 ⟨by omega, by omega, fun he => ?_, fun hne => ⟨R1.k, xc_isIdle (d := d + 5) V R1 hm (r_X2_member_48 ?_)⟩⟩)⟩)⟩⟩⟩)⟩⟩
      · exact nope (by unfold memOK; rw [decide_eq_false (fun z => z he), Bool.false_and]) G1 _ Md.rf rfl rfl
      · cases hi : idleB S (mm : Int)
        · exact ⟨by decide, fun _ => nope (by unfold memOK; rw [hi, Bool.false_and, Bool.and_false]) G1 _ Md.rf rfl rfl, fun hn => absurd rfl hn⟩
        · refine ⟨by decide, fun hn => absurd hn (by decide), fun _ => ⟨by cases chk <;> decide, fun hc => ?_, fun hc => ⟨R1.k, ?_⟩⟩⟩
          · have hc' : chk = false := by cases chk <;> first | rfl | cases hc
            subst hc'
            rw [show memOK S (fr : Int) (mm : Int) false = true by unfold memOK; rw [hi, decide_eq_true hne]; rfl, if_pos rfl] at hf
            exact qq G1 _ m (by omega) (by omega) (fun _ => ⟨n1, s1⟩) hf
          · have hc' : chk = true := by cases chk <;> first | rfl | exact absurd rfl hc
            subst hc'
            obtain ⟨si, hsi, hsi38, -⟩ := stage_nat V hfr
            obtain ⟨sj, hsj, hsj38, -⟩ := stage_nat V hm
            refine xc_stage (d := d + 10) V R1 (by omega) (r_X2_member_61 ⟨R1.k, xc_stage (d := d + 10) V R1 (by omega) (r_X2_member_67 ⟨e, rfl, R1.k, ?_⟩)⟩)
            rw [hsi, hsj]
            refine xc_blk V R1 (E.ask R m) hsi38 hsj38 (fun G2 m2 n2 s2 h2 => r_X2_member_70 ?_)
            cases hb : blockedB S (si : Int) (sj : Int)
            · rw [show memOK S (fr : Int) (mm : Int) true = true by unfold memOK; rw [hi, decide_eq_true hne, hsi, hsj, hb]; rfl, if_pos rfl] at hf
              exact ⟨by decide, fun hn => absurd rfl hn, fun _ => qq G2 _ (m.trans m2) (by omega) (by omega) (fun z => z.elim (fun z => by omega) (fun z => by cases z)) hf⟩
            · obtain ⟨q1, q2⟩ := h2 hb
              exact ⟨by decide, fun _ => nope (by unfold memOK; rw [hi, hsi, hsj, hb, decide_eq_true hne]; rfl) G2 _ m2 q1 q2, fun hn => absurd hn (by decide)⟩
  exact c_X2_member (loop (S 63 g).toNat 0 G none (by omega) Md.rf rfl rfl rfl)
/-- a refusal is counted -/
theorem xc_refuse {k : Nat} (R : Rep Z G e b S S) (hk : k < 13) (q : ∀ G', OpR Z e b 0 0 G G' (addAcc S k 1) → Q (.inl (some (tI (-10 - (k : Int))))) G') : TC Z (d + 1) mi_X2_refuse [tR (some e), tI (k : Int)] G Q := by
  have k19 := R.1.2.2.2.2.2.1.2.2.2.2.2.2.2.1
  have kb8 := R.1.2.2.2.2.2.2.2.2.2.2.2.2.2.2.2.1
  have lb8 := R.1.2.2.2.2.2.2.2.2.2.2.2.2.2.2.2.2.1
  refine c_X2_refuse ⟨R.k, fun v1 hv1 => ⟨b + 8, hv1.symm.trans k19, Or.inl kb8, by rw [lb8]; omega, b + 8, hv1.symm.trans k19, kb8, by rw [lb8]; omega, ?_⟩⟩
  rw [Int.toNat_natCast, show aI G (b + 8) k = S 65 k from R.2.1.2.2.2.2.2.2.2.2.2 k hk]
  obtain ⟨R2, m2⟩ := xr_acc (k := k) (v := S 65 k + 1) R hk
  have w2 := WL.md1 R.2.2.2.2.2.2.2 m2 (fun x hx ho z => by
    rcases ho with ho | ho
    · have := R.1.2.2.1; omega
    · exact (R.1.own (j := 7) (by decide) ho).2.1 8 (by decide) (by decide) z)
  exact q _ ⟨⟨m2.mono (fun x hx h => by rw [h]; exact (R.1.part 8 (by decide) (by decide)).1), Rm.same rfl (Nat.le_refl _) (Nat.le_refl _), R2⟩, fun x hx => by rw [w2] at hx; exact hx⟩
/-- why a call can't be made -/
theorem xc_whyNot {fr to : Nat} (V : Inv S) (R : Rep Z G e b S S) (E : EnvE Z G) (hfr : (fr : Int) < S 0 38 * S 0 39) (hto : (to : Int) < S 0 38 * S 0 39)
    (qq : ∀ G', Md (fun c => c = b + 9) G G' → gn G' ≤ gn G + 486 → gs G' ≤ gs G + 2754 → Q (.inl (some (tI (reasonNot S (fr : Int) (to : Int))))) G') :
    TC Z (d + 12) mi_X2_whyNot [tR (some e), tI (fr : Int), tI (to : Int)] G Q := by
  have s36 := sub36 V.1
  have r46 := V.r46
  obtain ⟨si, hsi, hsi38, -⟩ := stage_nat V hfr
  obtain ⟨sj, hsj, hsj38, -⟩ := stage_nat V hto
  unfold reasonNot at qq
  refine c_X2_whyNot ⟨R.k, xc_isIdle (d := d + 5) V R hfr (r_X2_whyNot_5 ?_)⟩
  cases h1 : idleB S (fr : Int)
  · rw [h1, if_pos rfl] at qq
    exact ⟨by decide, fun hn => absurd rfl hn, fun _ => qq G Md.rf (by omega) (by omega)⟩
  · rw [h1, if_neg (by decide)] at qq
    refine ⟨by decide, fun _ => ⟨R.k, xc_isIdle (d := d + 5) V R hto (r_X2_whyNot_15 ?_)⟩, fun hn => absurd hn (by decide)⟩
    cases h2 : idleB S (to : Int)
    · rw [h2, if_pos rfl] at qq
      exact ⟨by decide, fun hn => absurd rfl hn, fun _ => qq G Md.rf (by omega) (by omega)⟩
    · rw [h2, if_neg (by decide)] at qq
      refine ⟨by decide, fun _ => ⟨R.k, by rw [R.f46]; omega, fun h3 => ?_, fun h3 => ?_⟩, fun hn => absurd hn (by decide)⟩
      · rw [R.f46] at h3
        rw [if_neg h3, hsi, hsj] at qq
        refine xc_stage (d := d + 10) V R (by omega) (r_X2_whyNot_38 ⟨R.k, xc_stage (d := d + 10) V R (by omega) (r_X2_whyNot_43 ⟨e, rfl, R.k, ?_⟩)⟩)
        rw [hsi, hsj]
        refine xc_blk V R E hsi38 hsj38 (fun G2 m2 n2 s2 h2' => r_X2_whyNot_46 ?_)
        cases hb : blockedB S (si : Int) (sj : Int)
        · rw [hb, if_neg (by decide)] at qq
          exact ⟨by decide, fun _ => qq G2 m2 n2 s2, fun hn => absurd rfl hn⟩
        · rw [hb, if_pos rfl] at qq
          exact ⟨by decide, fun hn => absurd hn (by decide), fun _ => qq G2 m2 n2 s2⟩
      · rw [R.f46] at h3
        rw [if_pos h3] at qq
        exact qq G Md.rf (by omega) (by omega)
theorem reason_ok {fr to : Int} (h : reasonNot S fr to = 0) : idleB S fr = true ∧ idleB S to = true ∧ S 0 46 ≠ 200 ∧ blockedB S (fr.tdiv (S 0 39)) (to.tdiv (S 0 39)) = false := by
  unfold reasonNot at h
  cases h1 : idleB S fr
  · rw [h1, if_pos rfl] at h; omega
  · rw [h1, if_neg (by decide)] at h
    cases h2 : idleB S to
    · rw [h2, if_pos rfl] at h; omega
    · rw [h2, if_neg (by decide)] at h
      by_cases h3 : S 0 46 = 200
      · rw [if_pos h3] at h; omega
      · rw [if_neg h3] at h
        cases h4 : blockedB S (fr.tdiv (S 0 39)) (to.tdiv (S 0 39))
        · exact ⟨rfl, rfl, h3, rfl⟩
        · rw [h4, if_pos rfl] at h; omega
theorem reason_rng {fr to : Int} : 0 ≤ reasonNot S fr to ∧ reasonNot S fr to ≤ 4 := by
  unfold reasonNot
  repeat' split
  all_goals omega
/-- a call -/
theorem xc_call {fr to : Nat} {last : Int} (V : Inv S) (R : Rep Z G e b S S) (E : EnvE Z G) (hfr : (fr : Int) < S 0 38 * S 0 39) (hto : (to : Int) < S 0 38 * S 0 39)
    (q : ∀ G', OpR Z e b 1017 5714 G G' (callsUp S (fr : Int) (to : Int) last).2 → Q (.inl (some (tI (callsUp S (fr : Int) (to : Int) last).1))) G') :
    TC Z (d + 13) mi_X2_call [tR (some e), tI (fr : Int), tI (to : Int), tI last] G Q := by
  have rr := reason_rng (S := S) (fr := (fr : Int)) (to := (to : Int))
  have r46 := V.r46
  unfold callsUp at q
  refine c_X2_call ⟨R.k, xc_whyNot V R E hfr hto (fun G1 m1 n1 s1 => r_X2_call_6 ⟨by omega, fun hn => ?_, fun hz => ?_⟩)⟩
  · have o1 := OpR.ask R m1 n1 s1
    have R1 := o1.1.2.2
    rw [if_neg hn] at q
    obtain ⟨k, hk⟩ : ∃ k : Nat, reasonNot S (fr : Int) (to : Int) = (k : Int) := ⟨(reasonNot S (fr : Int) (to : Int)).toNat, by omega⟩
    rw [hk] at q ⊢
    refine ⟨R1.k, xc_refuse (d := d + 11) R1 (by omega) (fun G2 o2 => r_X2_call_29 (q G2 ?_))⟩
    exact (o1.trans o2).mono (by omega) (by omega)
  · have o1 := OpR.ask R m1 n1 s1
    have R1 := o1.1.2.2
    obtain ⟨z1, z2, z3, z4⟩ := reason_ok hz
    rw [if_pos hz] at q
    exact ⟨R1.k, xc_begin (d := d + 1) V R1 (E.ask R m1) hfr hto z1 z2 (by omega) z4 (fun G2 o2 _ => r_X2_call_20 (q G2 ((o1.trans o2).mono (by omega) (by omega))))⟩
end CALL
