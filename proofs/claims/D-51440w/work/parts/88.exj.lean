/-! THE EXCHANGE, 19: serving, hanging up, the tick -/
section SERVE2
variable {Z : ZT} {d : Nat} {G : GH} {Q : TR → GH → Prop} {e b : Nat} {S S' T T' : St}
theorem op_int {f k : Nat} {v : Int} (R : Rep Z G e b S S) (hf : f = 21 ∧ k = 46 ∨ f = 22 ∧ k = 44 ∨ f = 23 ∧ k = 42 ∨ f = 24 ∧ k = 43 ∨ f = 25 ∧ k = 45) : OpR Z e b 0 0 G (setI G f e v) (up2 S 0 k v) ∧ WL (setI G f e v) b = WL G b := by
  obtain ⟨R1, m1⟩ := xr_int (v := v) R hf
  have w1 := WL.md1 R.2.2.2.2.2.2.2 m1 (fun x hx ho z => by
    rcases ho with ho | ho
    · have := R.1.2.2.1; omega
    · exact (R.1.own (j := 7) (by decide) ho).1 z)
  exact ⟨⟨⟨m1.mono (fun x hx h => Or.inl h), Rm.same rfl (Nat.le_refl _) (Nat.le_refl _), R1⟩, fun x hx => by rw [w1] at hx; exact hx⟩, w1⟩
theorem op_acc {k : Nat} {v : Int} (R : Rep Z G e b S S) (hk : k < 13) : OpR Z e b 0 0 G (setA G (b + 8) k v) (up2 S 65 k v) ∧ WL (setA G (b + 8) k v) b = WL G b := by
  obtain ⟨R2, m2⟩ := xr_acc (v := v) R hk
  have w2 := WL.md1 R.2.2.2.2.2.2.2 m2 (fun x hx ho z => by
    rcases ho with ho | ho
    · have := R.1.2.2.1; omega
    · exact (R.1.own (j := 7) (by decide) ho).2.1 8 (by decide) (by decide) z)
  exact ⟨⟨⟨m2.mono (fun x hx h => by rw [h]; exact (R.1.part 8 (by decide) (by decide)).1), Rm.same rfl (Nat.le_refl _) (Nat.le_refl _), R2⟩, fun x hx => by rw [w2] at hx; exact hx⟩, w2⟩
/-- serving the waiters -/
theorem xc_serve (V : Inv S) (R : Rep Z G e b S S) (E : EnvE Z G)
    (q : ∀ G', OpR Z e b (1017 * (S 0 55 - serves S 0 55).toNat) (5714 * (S 0 55 - serves S 0 55).toNat) G G' (serves S) → Q (.inl none) G') : TC Z (d + 13) mi_X2_serve [tR (some e)] G Q := by
  have loop : ∀ (r w : Nat) (S1 : St) (G1 : GH) (o2 o3 o4 o5 : Option Value), Inv S1 → EnvE Z G1 → w + r = (S1 0 55).toNat → S1 0 55 ≤ S 0 55 → OpR Z e b (1017 * (S 0 55 - S1 0 55).toNat) (5714 * (S 0 55 - S1 0 55).toNat) G G1 S1 → servesL r w S1 = serves S →
      TW Z mi_X2_serve (d + 13) 2 [some (tR (some e)), some (tI (w : Int)), o2, o3, o4, o5] [] G1 Q := by
    intro r
    induction r with
    | zero =>
      intro w S1 G1 o2 o3 o4 o5 V1 E1 hw h55 o hf
      have R1 := o.1.2.2
      have r55 := V1.r55
      obtain ⟨w1, w2, w3⟩ := R1.2.2.2.2.2.2.2
      have k18 := R1.1.2.2.2.2.2.1.2.2.2.2.2.2.1
      have hf : S1 = serves S := hf
      rw [← hf] at q
      exact r_X2_serve_2 ⟨R1.k, fun v1 hv1 => ⟨b + 7, hv1.symm.trans k18, w1.1, jc_size w1 (r_X2_serve_12 ⟨by omega, by omega, fun _ => q G1 o, fun hn => by omega⟩)⟩⟩
    | succ r ih =>
      intro w S1 G1 o2 o3 o4 o5 V1 E1 hw h55 o hf
      have R1 := o.1.2.2
      have r55 := V1.r55
      have r46 := V1.r46
      have r60 := V1.r60
      have s36 := sub36 V1.1
      obtain ⟨w1, w2, w3⟩ := R1.2.2.2.2.2.2.2
      have k18 := R1.1.2.2.2.2.2.1.2.2.2.2.2.2.1
      have k17 := R1.1.2.2.2.2.2.1.2.2.2.2.2.1
      have hw5 : w < (S1 0 55).toNat := by omega
      have hwl : w < (WL G1 b).length := by omega
      have WO := w3 w hwl
      rw [servesL] at hf
      have nope : forWait S1 w = -1 → ∀ (G2 : GH) (o2 o3 : Option Value), OpR Z e b 0 0 G1 G2 S1 → EnvE Z G2 → TW Z mi_X2_serve (d + 13) 2 [some (tR (some e)), some (tI ((w : Int) + 1)), o2, o3, o4, o5] [] G2 Q := fun hn G2 o2 o3 o' E2 => by
        rw [if_pos hn] at hf
        exact ih (w + 1) S1 G2 o2 o3 o4 o5 V1 E2 (by omega) h55 ((o.trans o').mono (by omega) (by omega)) hf
      have wr := V1.1.2.2.1 w hw5
      have wx := V1.2.2.2.2.2.2.2.2.1 w hw5
      obtain ⟨fr, hfr⟩ : ∃ fr : Nat, S1 56 w = (fr : Int) := ⟨(S1 56 w).toNat, by have := wr.1; omega⟩
      obtain ⟨g, hg⟩ : ∃ g : Nat, S1 57 w = (g : Int) := ⟨(S1 57 w).toNat, by have := wr.2.1; omega⟩
      obtain ⟨gl, g1, g2, g3⟩ := R1.2.2.2.2.2.2.1
      have hg60 := wr.2.1.2
      rw [hg] at hg60
      have GO := g3 g (by omega)
      have f112 : fI G1 112 ((WL G1 b).getD w 0) = (fr : Int) := WO.2.2.2.1.trans hfr
      have f113 : fI G1 113 ((WL G1 b).getD w 0) = (g : Int) := WO.2.2.2.2.1.trans hg
      have hfr38 := wx.1
      rw [hfr] at hfr38
      refine r_X2_serve_2 ⟨R1.k, fun v1 hv1 => ⟨b + 7, hv1.symm.trans k18, w1.1, jc_size w1 (r_X2_serve_12 ⟨by omega, by omega, fun hn => by omega, fun _ => ⟨R1.k, fun v2 hv2 => ⟨b + 7, hv2.symm.trans k18, w1.1, jc_get (d := d + 9) w1 hwl (r_X2_serve_25 ⟨fun b' hb' => by cases hb'; exact WO.1, R1.k, by rw [R1.f46]; omega, fun h2 => fun v3 hv3 => ⟨_, rfl, WO.1, b + 6, hv3.symm.trans k17, g1.1, ?_⟩, fun h2 => ?_⟩)⟩⟩⟩)⟩⟩
      · rw [R1.f46] at h2
        rw [f113]
        refine jc_get (d := d + 9) g1 (by omega) (r_X2_serve_57 ⟨fun b' hb' => by cases hb'; exact GO.1, _, rfl, WO.1, e, rfl, R1.k, ?_⟩)
        rw [f112]
        refine xc_member (chk := true) V1 R1 E1 GO (by omega) hfr38 (fun G2 rr m2 n2 s2 h2' hrr => r_X2_serve_68 ?_)
        have fw : forWait S1 w = rr := by unfold forWait memberFor; rw [if_neg h2, hfr, hg, Int.toNat_natCast, ← hrr]
        have oA := OpR.ask R1 m2 n2 s2
        have R2 := oA.1.2.2
        have E2 := E1.ask R1 m2
        by_cases hz : rr = -1
        · obtain ⟨q1, q2⟩ := h2' (Or.inl hz)
          have oA' : OpR Z e b 0 0 G1 G2 S1 := OpR.ask R1 m2 (by omega) (by omega)
          exact ⟨by omega, fun hn => absurd hz hn, fun _ => nope (fw.trans hz) G2 _ _ oA' E2⟩
        · have hn : forWait S1 w ≠ -1 := by rw [fw]; exact hz
          obtain ⟨t1, t2, t3, t4, t5, t6, t7, t8⟩ := serve_ok V1 hw5 hn
          rw [if_neg hn] at hf
          have v55 := served_55 V1 hw5 hn
          have VS := served_r V1 hw5 hn
          rw [served_eq] at hf v55 VS
          rw [fw] at hf v55 VS t5 t7 t8
          rw [hfr] at hf v55 VS t6 t8
          obtain ⟨s, hs⟩ : ∃ s : Nat, rr = (s : Int) := ⟨rr.toNat, by omega⟩
          subst hs
          have wl2 : WL G2 b = WL G1 b := (R1.m9 m2).2.1
          have WO2 := WO.md m2 (fp9 R1.1)
          have k18' := R2.1.2.2.2.2.2.1.2.2.2.2.2.2.1
          refine ⟨by omega, fun _ => ⟨R2.k, fun v2 hv2 => ⟨b + 7, hv2.symm.trans k18', R2.2.2.2.2.2.2.2.1.1, ?_⟩⟩, fun hz' => absurd hz' hz⟩
          refine xc_unwait (d := d + 9) r55.1 R2 hw5 (fun G3 o3 wl3 => r_X2_serve_90 ?_)
          have R3 := o3.1.2.2
          have E3 := E2.op R2 o3
          have WO3 := WO2.md o3.1.1 R2.1.fp
          have kW2 : gK G3 ((WL G2 b).getD w 0) = 10 := by rw [wl2]; exact WO3.1
          refine ⟨fun b' hb' => by cases hb'; exact kW2, _, rfl, WO3.1, _, rfl, WO3.1, R3.k, ?_⟩
          have f112' : fI G3 112 ((WL G1 b).getD w 0) = (fr : Int) := WO3.2.2.2.1.trans hfr
          have f114' : fI G3 114 ((WL G1 b).getD w 0) = S1 58 w := WO3.2.2.2.2.2.1
          rw [f112', f114']
          have d0 : ∀ {k : Nat}, k ≠ 55 → delWait S1 w 0 k = S1 0 k := fun h => delWait_0 h
          refine xc_begin (d := d + 1) (V1.delW hw5) R3 E3 (by rw [d0 (by decide), d0 (by decide)]; exact hfr38) (by rw [d0 (by decide), d0 (by decide)]; exact t5.2) t6 t7 (by rw [d0 (by decide)]; exact t1) (by rw [d0 (by decide)]; exact t8) (fun G4 o4 wl4 => r_X2_serve_108 ?_)
          have R4 := o4.1.2.2
          have WO4 := WO3.md o4.1.1 R3.1.fp
          have k19 := R4.1.2.2.2.2.2.1.2.2.2.2.2.2.2.1
          have kb8 := R4.1.2.2.2.2.2.2.2.2.2.2.2.2.2.2.2.1
          have lb8 := R4.1.2.2.2.2.2.2.2.2.2.2.2.2.2.2.2.2.1
          refine ⟨R4.k, fun v1' hv1' => ⟨b + 8, hv1'.symm.trans k19, Or.inl kb8, by rw [lb8]; decide, b + 8, hv1'.symm.trans k19, kb8, by rw [lb8]; decide, fun v7 hv7 => ⟨b + 8, hv7.symm.trans k19, Or.inl kb8, by rw [lb8]; decide, _, rfl, WO4.1, b + 8, hv7.symm.trans k19, kb8, by rw [lb8]; decide, ?_⟩⟩⟩
          obtain ⟨o5', wl5⟩ := op_acc (k := 11) (v := begins (delWait S1 w) (fr : Int) (s : Int) (S1 58 w) 65 11 + 1) R4 (by decide)
          obtain ⟨o6, wl6⟩ := op_acc (k := 12) (v := begins (delWait S1 w) (fr : Int) (s : Int) (S1 58 w) 65 12 + (S1 0 44 - S1 59 w)) o5'.1.2.2 (by decide)
          have a11 : aI G4 (b + 8) (11 : Int).toNat = begins (delWait S1 w) (fr : Int) (s : Int) (S1 58 w) 65 11 := R4.2.1.2.2.2.2.2.2.2.2.2 11 (by decide)
          have a12 : aI G4 (b + 8) 12 = begins (delWait S1 w) (fr : Int) (s : Int) (S1 58 w) 65 12 := R4.2.1.2.2.2.2.2.2.2.2.2 12 (by decide)
          have f22 : fI G4 22 e = S1 0 44 := by
            rw [R4.f44, beg_44 (V1.delW hw5), d0 (by decide)]
          have f115 : fI G4 115 ((WL G1 b).getD w 0) = S1 59 w := WO4.2.2.2.2.2.2
          have eS : up2 (up2 (begins (delWait S1 w) (fr : Int) (s : Int) (S1 58 w)) 65 11 (begins (delWait S1 w) (fr : Int) (s : Int) (S1 58 w) 65 11 + 1)) 65 12 (begins (delWait S1 w) (fr : Int) (s : Int) (S1 58 w) 65 12 + (S1 0 44 - S1 59 w)) = addAcc (addAcc (begins (delWait S1 w) (fr : Int) (s : Int) (S1 58 w)) 11 1) 12 (S1 0 44 - S1 59 w) := by
            unfold addAcc
            rw [up2_ne (show (65 : Nat) ≠ 65 ∨ (12 : Nat) ≠ 11 from Or.inr (by decide))]
          rw [eS] at o6
          have oo := (((((oA.trans o3).trans o4).trans o5').trans o6))
          have a12' : aI (setA G4 (b + 8) (11 : Int).toNat (begins (delWait S1 w) (fr : Int) (s : Int) (S1 58 w) 65 11 + 1)) (b + 8) (12 : Int).toNat = begins (delWait S1 w) (fr : Int) (s : Int) (S1 58 w) 65 12 := (hA_ne (Or.inr (by decide))).trans a12
          rw [a11, a12', f22, f115]
          refine ih w _ _ _ _ _ _ VS (((((E2.op R2 o3).op R3 o4).op R4 o5').op o5'.1.2.2 o6)) (by omega) (by omega) ?_ hf
          refine (o.trans oo).mono ?_ ?_
          · omega
          · omega
      · rw [R1.f46] at h2
        refine nope (by unfold forWait; rw [if_pos h2]) G1 _ _ (OpR.rf R1) E1
  refine c_X2_serve (loop (S 0 55).toNat 0 S G none none none none V E (by omega) (Int.le_refl _) ?_ rfl)
  exact (OpR.rf R).mono (Nat.zero_le _) (Nat.zero_le _)
end SERVE2
