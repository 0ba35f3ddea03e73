/-! THE EXCHANGE, 22: cutting a middle: one of its calls -/
section ROUTED
variable {Z : ZT} {d : Nat} {G : GH} {Q : TR → GH → Prop} {e b : Nat} {S S' T T' : St}
theorem rerouted_eq {c : Nat} {RS : St} {m : Int} (h1 : (reroute S c).1 = m) (h2 : (reroute S c).2 = RS) : up2 (up2 (up2 (up2 RS 51 c m) 0 45 m) 54 c (RS 54 c + 1)) 65 10 (RS 65 10 + 1) = rerouted S c := by
  unfold rerouted addAcc
  rw [h1, h2]
  have e10 : up2 (up2 (up2 RS 51 c m) 54 c (RS 54 c + 1)) 0 45 m 65 10 = RS 65 10 := by rw [up2_ne (Or.inl (by decide)), up2_ne (Or.inl (by decide)), up2_ne (Or.inl (by decide))]
  rw [e10]
  congr 1
  funext f x
  by_cases h0 : f = 0
  · subst h0
    rw [up2_ne (Or.inl (by decide))]
    by_cases hx : x = 45
    · subst hx; rw [up2_at, up2_at]
    · rw [up2_ne (Or.inr hx), up2_ne (Or.inr hx), up2_ne (Or.inl (by decide)), up2_ne (Or.inl (by decide)), up2_ne (Or.inl (by decide))]
  · by_cases h54 : f = 54 ∧ x = c
    · obtain ⟨rfl, rfl⟩ := h54
      exact up2_at.trans ((up2_ne (Or.inl h0)).trans up2_at).symm
    · have h' : f ≠ 54 ∨ x ≠ c := if h : f = 54 then Or.inr (fun z => h54 ⟨h, z⟩) else Or.inl h
      exact ((up2_ne h').trans (up2_ne (Or.inl h0))).trans ((up2_ne (Or.inl h0)).trans (up2_ne h')).symm
theorem op_moved {c : Nat} {v : Int} (R : Rep Z G e b S S) (W : RwS S) (hc : c < (S 0 47).toNat) : OpR Z e b 0 0 G (setI G 111 (callA G b S c) v) (up2 S 54 c v) ∧ ∀ x, callA (setI G 111 (callA G b S c) v) b (up2 S 54 c v) x = callA G b S x := by
  have C := R.co hc
  have hA : ∀ x, x = callA G b S c → gP G x = e ∧ gK G x = 9 := fun x hx => by rw [hx]; exact ⟨C.2.1, C.1⟩
  obtain ⟨R1, m1⟩ := xr_moved (v := v) R W hc
  obtain ⟨-, -, -, cA, cg, -, -⟩ := R.pl m1 hA
  have w1 := WL.md1 R.2.2.2.2.2.2.2 m1 ((PL.no R.1 hA).2.2.1 7 (by decide) (by decide))
  exact ⟨⟨⟨cg, Rm.same rfl (Nat.le_refl _) (Nat.le_refl _), R1⟩, fun x hx => by rw [w1] at hx; exact hx⟩, fun x => (callA_eq (funext fun y => up2_ne (Or.inl (by decide))) x).trans (cA x)⟩
/-- a call that was cut finds another middle, or ends -/
theorem xc_isRouted {c : Nat} (V : Inv S) (R : Rep Z G e b S S) (E : EnvE Z G) (hc : c < (S 0 47).toNat) (h51 : S 51 c = -1)
    (q0 : (reroute S c).1 = -1 → (reroute S c).2 = S → ∀ G', OpR Z e b 531 2960 G G' (addAcc (delRow S c) 7 1) → (∀ x : Nat, x < (S 0 47).toNat - 1 → callA G' b (addAcc (delRow S c) 7 1) x = callA G b S (shf c x)) → Q (.inl (some (tI 0))) G')
    (q1 : (reroute S c).1 ≠ -1 → ∀ G', OpR Z e b 531 2960 G G' (rerouted S c) → (∀ x, callA G' b (rerouted S c) x = callA G b S x) → Q (.inl (some (tI 1))) G') :
    TC Z (d + 11) mi_X2_isRouted [tR (some e), tR (some (callA G b S c))] G Q := by
  have C := R.co hc
  obtain ⟨si, hsi, hsi5, hsi38⟩ := endS_nat V hc false
  obtain ⟨sj, hsj, hsj5, hsj38⟩ := endS_nat V hc true
  have rt : reroute S c = route S (si : Int) (sj : Int) (S 0 43) (decide (S 0 42 = 1)) (S 0 40) true := by
    unfold reroute
    rw [show fromS S c = (si : Int) from hsi, show toS S c = (sj : Int) from hsj]
  have ro := route_ok V (i := (si : Int)) (j := (sj : Int)) (rule := S 0 43) (low := S 0 40) (chains := decide (S 0 42 = 1)) (counts := true)
  refine c_X2_isRouted ⟨R.k, jx_from (d := d + 8) V.rw hc R.k R.f39 C.1 C.2.2.2.2.1 (r_X2_isRouted_6 ⟨R.k, jx_to (d := d + 8) V.rw hc R.k R.f39 C.1 C.2.2.2.2.2.1 (r_X2_isRouted_11 ⟨e, rfl, R.k, ?_⟩)⟩)⟩
  rw [hsi, hsj]
  refine xc_path V R E.1 E.2.1 E.2.2.1 E.2.2.2 hsi38 hsj38 (fun G1 r m1 n1 s1 _ P => r_X2_isRouted_14 ⟨fun hn => ?_, fun pa hpa => ?_⟩)
  · have o1 := OpR.ask R m1 n1 s1
    obtain ⟨R1, -, cA1⟩ := R.m9 m1
    have bl := (path_none V P).mp hn
    have r1 : (reroute S c).1 = -1 := by
      rw [rt]
      unfold blockedB at bl
      rw [Bool.and_eq_true, Bool.or_eq_true] at bl
      have h0 := of_decide_eq_true bl.1
      have hh : hunted S (si : Int) (sj : Int) (S 0 43) (S 0 40) = -1 := (hunted_iff V.1).mpr ((hunted_iff V.1).mp h0)
      unfold route
      by_cases hm : decide (S 0 42 = 1) = true
      · rw [if_pos ⟨hh, hm⟩]
        have : (chain S (si : Int) (sj : Int) (S 0 40)).isNone = true := bl.2.resolve_left (fun z => by have := of_decide_eq_true z; have := of_decide_eq_true hm; omega)
        cases hch : chain S (si : Int) (sj : Int) (S 0 40) with
        | none => rfl
        | some x => rw [hch] at this; cases this
      · rw [if_neg (fun z => hm z.2)]
        exact hh
    have r2 : (reroute S c).2 = S := by
      rw [rt] at r1 ⊢
      rcases ro.2.2.2 with h | h
      · exact h.2
      · omega
    have hcA : callA G b S c = callA G1 b S c := (cA1 c).symm
    refine ⟨R1.k, ?_⟩
    rw [hcA]
    exact xc_endA (d := d + 3) (acct := 7) V R1 hc (by decide) (fun G2 o2 _ cA2 => r_X2_isRouted_26 (q0 r1 r2 G2 ((o1.trans o2).mono (by omega) (by omega)) (fun x hx => by rw [cA2 x hx, cA1])))
  · have o1 := OpR.ask R m1 n1 s1
    obtain ⟨R1, -, cA1⟩ := R.m9 m1
    subst hpa
    have P1 : PathR Z G1 b S (si : Int) (sj : Int) (S 0 43) (decide (S 0 42 = 1)) (S 0 40) G1 (some pa) := P.cA (fun x => (cA1 x).symm)
    have z1 := m1.fz E.2.2.2
    refine ⟨R1.k, xc_take (d := d + 2) V R1 hsi38 hsj38 P1 z1 (fun G3 m hm hm8 mt rm R3 z3 Q' kk => ?_)⟩
    have hA1 := R1.rowA
    have pt1 := PT.no R1.1 hA1
    have rok := ro.2.2.2.resolve_left (fun h => by rw [← hm] at h; omega)
    have VR := ro.1
    have eqR := ro.2.1
    have iff51 := ro.2.2.1
    have r1 : (reroute S c).1 = (m : Int) := by rw [rt]; exact hm.symm
    have r2 : (reroute S c).2 = (route S (si : Int) (sj : Int) (S 0 43) (decide (S 0 42 = 1)) (S 0 40) true).2 := by rw [rt]
    rw [← hm] at rok
    have wl3 : WL G3 b = WL G1 b := WL.md1 R1.2.2.2.2.2.2.2 mt (pt1.2.2.1 7 (by decide) (by decide))
    have cg3 : CgE e b G1 G3 := mt.mono (PT.reg R1.1 hA1)
    generalize hRS : (route S (si : Int) (sj : Int) (S 0 43) (decide (S 0 42 = 1)) (S 0 40) true).2 = RS at *
    have e47 : RS 0 47 = S 0 47 := eqR 0 47 (by decide) (by decide) (by decide)
    have e39 : RS 0 39 = S 0 39 := eqR 0 39 (by decide) (by decide) (by decide)
    have ee : endS RS = endS S := endS_eq e39 (funext fun x => eqR 49 x (by decide) (by decide) (by decide)) (funext fun x => eqR 50 x (by decide) (by decide) (by decide))
    have cA3 : ∀ x, callA G3 b RS x = callA G b S x := fun x => (callA_pt R1.1 hA1 mt (funext fun y => eqR 48 y (by decide) (by decide) (by decide)) x).trans (cA1 x)
    have hcR : c < (RS 0 47).toNat := by rw [e47]; exact hc
    rw [← cA3 c]
    refine xc_lay (d := d + 3) R3 VR.rw SameR.rf hcR hm8 ((iff51 c).mpr h51) (fun t => ?_) z3 (fun G4 m4 rm4 R4 => ?_)
    · rw [ee]
      cases t
      · rw [hsi]; exact rok.2.2.2.1
      · rw [hsj]; exact rok.2.2.2.2
    have C3 := R3.co hcR
    have hA3 : ∀ x, x = callA G3 b RS c → gP G3 x = e ∧ gK G3 x = 9 := fun x hx => by rw [hx]; exact ⟨C3.2.1, C3.1⟩
    obtain ⟨sh4, -, -, cA4, cg4, -, -⟩ := R3.pl m4 hA3
    have wl4 := WL.md1 R3.2.2.2.2.2.2.2 m4 ((PL.no R3.1 hA3).2.2.1 7 (by decide) (by decide))
    refine kk G4 cg4 ?_
    obtain ⟨o5, wl5⟩ := op_int (f := 25) (k := 45) (v := (m : Int)) R4 (by decide)
    have R5 := o5.1.2.2
    have W4 : RwS (up2 RS 51 c (m : Int)) := VR.rw.eq (up2_ne (Or.inl (by decide))) (up2_ne (Or.inl (by decide))) (funext fun x => up2_ne (Or.inl (by decide))) (funext fun x => up2_ne (Or.inl (by decide))) (funext fun x => up2_ne (Or.inl (by decide)))
    have W5 : RwS (up2 (up2 RS 51 c (m : Int)) 0 45 (m : Int)) := W4.eq (up2_ne (Or.inr (by decide))) (up2_ne (Or.inr (by decide))) (funext fun x => up2_ne (Or.inl (by decide))) (funext fun x => up2_ne (Or.inl (by decide))) (funext fun x => up2_ne (Or.inl (by decide)))
    have e0 : up2 (up2 RS 51 c (m : Int)) 0 45 (m : Int) 0 47 = RS 0 47 := (up2_ne (Or.inr (by decide))).trans (up2_ne (Or.inl (by decide)))
    have hc5 : c < (up2 (up2 RS 51 c (m : Int)) 0 45 (m : Int) 0 47).toNat := by rw [e0]; exact hcR
    have cA5 : ∀ x, callA (setI G4 25 e (m : Int)) b (up2 (up2 RS 51 c (m : Int)) 0 45 (m : Int)) x = callA G b S x := fun x => by
      refine Eq.trans ?_ ((cA4 x).trans (cA3 x))
      have : callA (setI G4 25 e (m : Int)) b (up2 (up2 RS 51 c (m : Int)) 0 45 (m : Int)) x = callA G4 b (up2 (up2 RS 51 c (m : Int)) 0 45 (m : Int)) x := rfl
      rw [this]
      exact callA_eq (funext fun y => (up2_ne (Or.inl (by decide))).trans (up2_ne (Or.inl (by decide)))) x
    have C5 := R5.co hc5
    rw [cA5] at C5
    obtain ⟨o6, cA6⟩ := op_moved (v := RS 54 c + 1) R5 W5 hc5
    rw [cA5] at o6 cA6
    obtain ⟨o7, wl7⟩ := op_acc (k := 10) (v := RS 65 10 + 1) o6.1.2.2 (by decide)
    rw [rerouted_eq r1 r2] at o7
    have k19 := R5.1.2.2.2.2.2.1.2.2.2.2.2.2.2.1
    have kb8 := R5.1.2.2.2.2.2.2.2.2.2.2.2.2.2.2.2.1
    have lb8 := R5.1.2.2.2.2.2.2.2.2.2.2.2.2.2.2.2.2.1
    have f111 : fI (setI G4 25 e (m : Int)) 111 (callA G b S c) = RS 54 c := C5.2.2.2.2.2.2.2.2.2.trans ((up2_ne (Or.inl (by decide))).trans (up2_ne (Or.inl (by decide))))
    have a10 : aI (setI G4 25 e (m : Int)) (b + 8) (10 : Int).toNat = RS 65 10 := (R5.2.1.2.2.2.2.2.2.2.2.2 10 (by decide)).trans ((up2_ne (Or.inl (by decide))).trans (up2_ne (Or.inl (by decide))))
    refine r_X2_isRouted_34 ⟨_, rfl, C5.1, _, rfl, C5.1, R5.k, fun v5 hv5 => ⟨b + 8, hv5.symm.trans k19, Or.inl kb8, by rw [lb8]; decide, b + 8, hv5.symm.trans k19, kb8, by rw [lb8]; decide, ?_⟩⟩
    rw [f111, a10]
    refine q1 (by rw [r1]; omega) _ ?_ (fun x => ?_)
    · have oA : OpR Z e b 44 198 G1 G4 (up2 RS 51 c (m : Int)) := by
        refine ⟨⟨cg3.trans cg4, ?_, R4⟩, fun x hx => by rw [wl4, wl3] at hx; exact hx⟩
        have := rm.trans rm4
        exact this
      exact ((((o1.trans oA).trans o5).trans o6).trans o7).mono (by omega) (by omega)
    · refine Eq.trans ?_ ((cA6 x).trans (cA5 x))
      have ev : up2 (up2 (up2 (up2 RS 51 c (m : Int)) 0 45 (m : Int)) 54 c (RS 54 c + 1)) 65 10 (RS 65 10 + 1) = rerouted S c := rerouted_eq r1 r2
      rw [← ev]
      have : ∀ (Y : St), callA (setA (setI (setI G4 25 e (m : Int)) 111 (callA G b S c) (RS 54 c + 1)) (b + 8) (10 : Int).toNat (RS 65 10 + 1)) b Y x = callA (setI (setI G4 25 e (m : Int)) 111 (callA G b S c) (RS 54 c + 1)) b Y x := fun _ => rfl
      rw [this]
      exact callA_eq (funext fun y => up2_ne (Or.inl (by decide))) x
end ROUTED
