/-! THE EXCHANGE, 25: packing -/
section PACK
variable {Z : ZT} {d : Nat} {G : GH} {Q : TR → GH → Prop} {e b : Nat} {S S' T T' : St}
theorem jx_max {x y : Int} (hx : inR x) (hy : inR y) (q : Q (.inl (some (tI (maxI x y)))) G) : TC Z (d + 1) mi_J11_max [tI x, tI y] G Q := by
  have e1 : x < y → maxI x y = y := fun h => by unfold maxI; rw [if_neg (by omega)]
  have e2 : ¬ x < y → maxI x y = x := fun h => by unfold maxI; split <;> omega
  refine c_J11_max ⟨hx, hy, fun h => ?_, fun h => ?_⟩
  · rw [e1 h] at q; exact q
  · rw [e2 h] at q; exact q
/-- calls at a switch -/
theorem xc_callsAt {i : Nat} {t : Bool} (V : Inv S) (R : Rep Z G e b S S) (hi : i ≤ 5) (q : Q (.inl (some (tI (callsAtS S (i : Int) t)))) G) : TC Z (d + 3) mi_X2_callsAt [tR (some e), tI (i : Int), tI ((t.toNat : Nat) : Int)] G Q := by
  have r46 := V.r46
  have r47 := V.r47
  have k12 := R.1.2.2.2.2.2.1.1
  have kb1 := R.1.2.2.2.2.2.2.2.1
  have lb1 := R.1.2.2.2.2.2.2.2.2.1
  have loop : ∀ (r k c : Nat) (cnt : Int), k + r = (S 0 46).toNat → PtrI S k c → 0 ≤ cnt → cnt ≤ c → cnt + sumI (fun c => b2i (decide (endS S c t = (i : Int)))) ((S 0 47).toNat - c) c = callsAtS S (i : Int) t →
      TW Z mi_X2_callsAt (d + 3) 5 [some (tR (some e)), some (tI (i : Int)), some (tI ((t.toNat : Nat) : Int)), some (tI cnt), some (tI (k : Int))] [] G Q := by
    intro r
    induction r with
    | zero =>
      intro k c cnt hk P c0 c1 hf
      have pe := P.end V (by omega)
      refine r_X2_callsAt_5 ⟨R.k, by omega, by rw [R.f46]; omega, fun _ => ?_, fun hn => by rw [R.f46] at hn; omega⟩
      rw [pe, Nat.sub_self] at hf
      have : cnt = callsAtS S (i : Int) t := by rw [← hf]; show cnt = cnt + 0; omega
      rw [this]
      exact q
    | succ r ih =>
      intro k c cnt hk P c0 c1 hf
      have cN := P.1
      refine r_X2_callsAt_5 ⟨R.k, by omega, by rw [R.f46]; omega, fun hn => by rw [R.f46] at hn; omega, fun _ v2 hv2 => ⟨b + 1, hv2.symm.trans k12, Or.inl kb1, by rw [lb1]; omega, fun v6 hv6 => ?_⟩⟩
      rw [Int.toNat_natCast, R.at V P (by omega)] at hv6
      by_cases hh : c < (S 0 47).toNat ∧ S 48 c = (k : Int)
      · have hv : aR G (b + 1) k = some (callA G b S c) := by rw [R.at V P (by omega), if_pos hh]
        rw [if_pos hh] at hv6
        obtain ⟨hc, h48⟩ := hh
        have C := R.co hc
        rw [show (S 0 47).toNat - c = ((S 0 47).toNat - (c + 1)) + 1 by omega] at hf
        have hf : cnt + (b2i (decide (endS S c t = (i : Int))) + sumI (fun c => b2i (decide (endS S c t = (i : Int)))) ((S 0 47).toNat - (c + 1)) (c + 1)) = callsAtS S (i : Int) t := hf
        obtain ⟨n, hn, hn5, -⟩ := endS_nat V hc t
        have go : (inR (endS S c t)) ∧ (inR (i : Int)) ∧ ((¬ endS S c t = (i : Int) → TW Z mi_X2_callsAt (d + 3) 5 [some (tR (some e)), some (tI (i : Int)), some (tI ((t.toNat : Nat) : Int)), some (tI cnt), some (tI ((k : Int) + 1))] [] G Q) ∧ (endS S c t = (i : Int) → TW Z mi_X2_callsAt (d + 3) 5 [some (tR (some e)), some (tI (i : Int)), some (tI ((t.toNat : Nat) : Int)), some (tI (cnt + 1)), some (tI ((k : Int) + 1))] [] G Q)) := by
          refine ⟨by omega, by omega, fun hne => ?_, fun he => ?_⟩
          · rw [decide_eq_false hne] at hf
            have e0 : b2i false = 0 := rfl
            rw [e0] at hf
            exact ih (k + 1) (c + 1) cnt (by omega) (P.hit V hc h48) c0 (by omega) (by omega)
          · rw [decide_eq_true he] at hf
            have e0 : b2i true = 1 := rfl
            rw [e0] at hf
            exact ih (k + 1) (c + 1) (cnt + 1) (by omega) (P.hit V hc h48) (by omega) (by omega) (by omega)
        refine ⟨fun hn => (by rw [← hv6] at hn; cases hn), fun a8 ha8 => ⟨by cases t <;> decide, fun ht => fun v11 hv11 => ⟨b + 1, hv11.symm.trans k12, Or.inl kb1, by rw [lb1]; omega, fun v15 hv15 => ?_⟩, fun ht => fun v17 hv17 => ⟨b + 1, hv17.symm.trans k12, Or.inl kb1, by rw [lb1]; omega, fun v21 hv21 => ?_⟩⟩⟩
        · have ht' : t = false := by cases t <;> first | rfl | cases ht
          subst ht'
          have ev : v15 = some (callA G b S c) := by rw [← hv15, Int.toNat_natCast]; exact hv
          subst ev
          exact jx_from V.rw hc R.k R.f39 C.1 C.2.2.2.2.1 (r_X2_callsAt_53 go)
        · have ht' : t = true := by cases t <;> first | rfl | exact absurd rfl ht
          subst ht'
          have ev : v21 = some (callA G b S c) := by rw [← hv21, Int.toNat_natCast]; exact hv
          subst ev
          exact jx_to V.rw hc R.k R.f39 C.1 C.2.2.2.2.2.1 (r_X2_callsAt_39 go)
      · rw [if_neg hh] at hv6
        exact ⟨fun _ => ih (k + 1) c cnt (by omega) (P.miss V hh) c0 c1 hf, fun a8 ha8 => by rw [← hv6] at ha8; cases ha8⟩
  exact c_X2_callsAt (loop (S 0 46).toNat 0 0 0 (by omega) (PtrI.zero V) (Int.le_refl _) (Int.le_refl _) (by rw [Nat.sub_zero]; show 0 + callsAtS S (i : Int) t = _; omega))
/-- how many middles are needed -/
theorem xc_needed (V : Inv S) (R : Rep Z G e b S S) (q : Q (.inl (some (tI (fewest S)))) G) : TC Z (d + 4) mi_X2_needed [tR (some e)] G Q := by
  have r38 := V.r38
  have r47 := V.r47
  have loop : ∀ (r k : Nat) (x : Int), k + r = (S 0 38).toNat → 0 ≤ x → x ≤ 18 → fewL S r k x = fewest S → TW Z mi_X2_needed (d + 4) 4 [some (tR (some e)), some (tI x), some (tI (k : Int))] [] G Q := by
    intro r
    induction r with
    | zero =>
      intro k x hk h0 h1 hf
      have hf : x = fewest S := hf
      rw [← hf] at q
      exact r_X2_needed_4 ⟨R.k, by omega, by rw [R.f38]; omega, fun _ => q, fun hn => by rw [R.f38] at hn; omega⟩
    | succ r ih =>
      intro k x hk h0 h1 hf
      have hf : fewL S r (k + 1) (maxI (callsAtS S (k : Int) true) (maxI (callsAtS S (k : Int) false) x)) = fewest S := hf
      have a1 : 0 ≤ callsAtS S (k : Int) true ∧ callsAtS S (k : Int) true ≤ (S 0 47).toNat := callsAt_rng
      have a2 : 0 ≤ callsAtS S (k : Int) false ∧ callsAtS S (k : Int) false ≤ (S 0 47).toNat := callsAt_rng
      have em : maxI x (maxI (callsAtS S (k : Int) false) (callsAtS S (k : Int) true)) = maxI (callsAtS S (k : Int) true) (maxI (callsAtS S (k : Int) false) x) := by
        unfold maxI
        repeat' split
        all_goals omega
      have mr : 0 ≤ maxI (callsAtS S (k : Int) false) (callsAtS S (k : Int) true) ∧ maxI (callsAtS S (k : Int) false) (callsAtS S (k : Int) true) ≤ 18 := by unfold maxI; split <;> omega
      refine r_X2_needed_4 ⟨R.k, by omega, by rw [R.f38]; omega, fun hn => by rw [R.f38] at hn; omega, fun _ => xc_callsAt (t := false) V R (by omega) (r_X2_needed_19 ⟨R.k, xc_callsAt (t := true) V R (by omega) (r_X2_needed_25 (jx_max (d := d + 2) (by omega) (by omega) (r_X2_needed_28 (jx_max (d := d + 2) (by omega) (by omega) (r_X2_needed_31 ?_)))))⟩)⟩
      rw [em]
      refine ih (k + 1) _ (by omega) ?_ ?_ hf
      · rw [← em]; unfold maxI at mr ⊢; split <;> omega
      · rw [← em]; unfold maxI at mr ⊢; split <;> omega
  exact c_X2_needed (loop (S 0 38).toNat 0 0 (by omega) (Int.le_refl _) (by omega) rfl)
theorem SetIs.eq {w low : Int} (h : SetIs S w low) (h40 : S' 0 40 = S 0 40) (h41 : S' 0 41 = S 0 41) : SetIs S' w low := by
  have ec : isCutB S' = isCutB S := by funext k; unfold isCutB; rw [h41]
  have et : isThereB S' = isThereB S := by funext m l; unfold isThereB; rw [ec]
  refine ⟨h.1, fun m hm => ?_⟩
  rw [et]
  exact h.2 m (by rw [← h40]; exact hm)
/-- one call is packed -/
theorem xc_packOne {c : Nat} {w low : Int} (V : Inv S) (R : Rep Z G e b S S) (E : EnvE Z G) (hc : c < (S 0 47).toNat) (h51 : S 51 c = -1) (hw : SetIs S w low) (hsome : (route S (fromS S c) (toS S c) 0 true low false).1 ≠ -1)
    (q : ∀ G', OpR Z e b 531 2960 G G' (packStep low c S) → (∀ x, callA G' b (packStep low c S) x = callA G b S x) → Q (.inl none) G') :
    TC Z (d + 10) mi_X2_packOne [tR (some e), tR (some (callA G b S c)), tI w] G Q := by
  have r40 := V.r40
  have C := R.co hc
  obtain ⟨si, hsi, hsi5, hsi38⟩ := endS_nat V hc false
  obtain ⟨sj, hsj, hsj5, hsj38⟩ := endS_nat V hc true
  have rt : route S (fromS S c) (toS S c) 0 true low false = route S (si : Int) (sj : Int) 0 true low false := by
    rw [show fromS S c = (si : Int) from hsi, show toS S c = (sj : Int) from hsj]
  have ro := route_ok V (i := (si : Int)) (j := (sj : Int)) (rule := 0) (low := low) (chains := true) (counts := false)
  rw [rt] at hsome
  have rok := ro.2.2.2.resolve_left (fun h => hsome h.1)
  refine c_X2_packOne ⟨R.k, jx_from (d := d + 7) V.rw hc R.k R.f39 C.1 C.2.2.2.2.1 (r_X2_packOne_6 ⟨R.k, jx_to (d := d + 7) V.rw hc R.k R.f39 C.1 C.2.2.2.2.2.1 (r_X2_packOne_11 ⟨e, rfl, R.k, ?_⟩)⟩)⟩
  rw [hsi, hsj]
  refine xc_path2 (ch := true) V R E.1 E.2.2.1 E.2.2.2 hsi38 hsj38 hw (by omega) (fun G1 r m1 n1 s1 _ P => r_X2_packOne_17 ?_)
  have o1 := OpR.ask R m1 n1 s1
  obtain ⟨R1, -, cA1⟩ := R.m9 m1
  have z1 := m1.fz E.2.2.2
  -- behind the swap: the call is laid
  have lay : ∀ (G2 : GH) (RS : St) (pa : Nat) (mid p qq' : Int) (l : List Nat), OpR Z e b 40 180 G1 G2 RS → (∀ x, callA G2 b RS x = callA G b S x) → PathO Z G2 pa mid p qq' l → Fz G2 → route S (si : Int) (sj : Int) 0 true low false = (mid, RS) → TW Z mi_X2_packOne (d + 10) 23 [some (tR (some e)), some (tR (some (callA G b S c))), some (tI w), some (tR (some pa))] [] G2 Q := by
    intro G2 RS pa mid p qq' l o2 cA2 P2 z2 hr
    rw [hr] at ro rok
    have R2 := o2.1.2.2
    obtain ⟨m, hmn⟩ : ∃ m : Nat, mid = (m : Int) := ⟨mid.toNat, by have := rok.1; omega⟩
    have hm8 : m ≤ 8 := by have := rok.2.1; omega
    have VR := ro.1
    have eqR := ro.2.1
    have e47 : RS 0 47 = S 0 47 := eqR 0 47 (by decide) (by decide) (by decide)
    have e39 : RS 0 39 = S 0 39 := eqR 0 39 (by decide) (by decide) (by decide)
    have ee : endS RS = endS S := endS_eq e39 (funext fun x => eqR 49 x (by decide) (by decide) (by decide)) (funext fun x => eqR 50 x (by decide) (by decide) (by decide))
    have hcR : c < (RS 0 47).toNat := by rw [e47]; exact hc
    refine r_X2_packOne_23 ⟨pa, rfl, P2.1, R2.k, ?_⟩
    rw [P2.2.2.2.1, hmn, ← cA2 c]
    subst hmn
    refine xc_lay (d := d + 3) R2 VR.rw SameR.rf hcR hm8 ((ro.2.2.1 c).mpr h51) (fun t => ?_) z2 (fun G4 m4 rm4 R4 => r_X2_packOne_32 ?_)
    · rw [ee]
      cases t
      · rw [hsi]; exact rok.2.2.2.1
      · rw [hsj]; exact rok.2.2.2.2
    have C2 := R2.co hcR
    have hA2 : ∀ x, x = callA G2 b RS c → gP G2 x = e ∧ gK G2 x = 9 := fun x hx => by rw [hx]; exact ⟨C2.2.1, C2.1⟩
    obtain ⟨-, -, -, cA4, cg4, -, -⟩ := R2.pl m4 hA2
    have wl4 := WL.md1 R2.2.2.2.2.2.2.2 m4 ((PL.no R2.1 hA2).2.2.1 7 (by decide) (by decide))
    have eP : packStep low c S = up2 RS 51 c (m : Int) := by
      unfold packStep
      rw [rt, hr]
    have o4 : OpR Z e b 4 18 G2 G4 (up2 RS 51 c (m : Int)) := ⟨⟨cg4, rm4, R4⟩, fun x hx => by rw [wl4] at hx; exact hx⟩
    rw [← eP] at o4
    refine q G4 (((o1.trans o2).trans o4).mono (by omega) (by omega)) (fun x => ?_)
    rw [eP]
    exact (callA_eq (funext fun y => up2_ne (Or.inl (by decide))) x).trans ((cA4 x).trans (cA2 x))
  have P1 : PathR Z G1 b S (si : Int) (sj : Int) 0 true low G1 r := P.cA (fun x => (cA1 x).symm)
  obtain ⟨pa, hpa⟩ : ∃ pa, r = some pa := by
    cases r with
    | some pa => exact ⟨pa, rfl⟩
    | none =>
      exfalso
      unfold PathR at P
      unfold route at hsome
      by_cases hh : hunted S (si : Int) (sj : Int) 0 low = -1
      · rw [if_pos hh, if_pos rfl] at P
        rw [if_pos ⟨hh, rfl⟩] at hsome
        cases hch : chain S (si : Int) (sj : Int) low with
        | none => rw [hch] at hsome; exact hsome rfl
        | some x => rw [hch] at P; obtain ⟨-, a, h, -⟩ := P; cases h
      · rw [if_neg hh] at P
        obtain ⟨a, h, -⟩ := P
        cases h
  subst hpa
  rcases route_path P1 with ⟨m, hr, hm, hm1, PO⟩ | ⟨ch, hh, -, hchain, hr, l10, PO⟩
  · have hr' : route S (si : Int) (sj : Int) 0 true low false = (m, S) := by
      unfold route
      rw [if_neg (fun z => hm1 (by rw [hm]; exact z.1)), ← hm]
    have PO' : PathO Z G1 pa m (-1) (-1) (([] : List Nat).map (callA G1 b S)) := PO
    refine ⟨R1.k, xc_swap (d := d + 2) R1 V.rw PO' List.nodup_nil (by decide) (fun x hx => by cases hx) (fun h => absurd rfl h) V.2.1 (by rw [flipS_nil]; exact V.2.1) z1 (fun G2 m2 rm2 R2 => ?_)⟩
    rw [flipS_nil] at R2
    have hA1 := R1.rowA
    have cg2 : CgE e b G1 G2 := m2.mono (PL.reg R1.1 hA1)
    have wl2 := WL.md1 R1.2.2.2.2.2.2.2 m2 ((PL.no R1.1 hA1).2.2.1 7 (by decide) (by decide))
    have o2 : OpR Z e b 40 180 G1 G2 S := ⟨⟨cg2, by unfold Rm at rm2 ⊢; simp only [List.length_nil, Nat.mul_zero] at rm2; omega, R2⟩, fun x hx => by rw [wl2] at hx; exact hx⟩
    have cA2 : ∀ x, callA G2 b S x = callA G b S x := fun x => (callA_md1 R1.1 m2 ((PL.no R1.1 hA1).2.1 1 (by decide) (by decide) (by decide) (by decide)) x).trans (cA1 x)
    exact lay G2 S pa m _ _ _ o2 cA2 (PO.fp m2 (R1.1.fp.mono (PL.reg R1.1 hA1))) (m2.fz z1) hr'
  · have N := (hunted_iff V.1).mp hh
    have g := chain_good hchain
    refine ⟨R1.k, xc_swapc (i := si) (j := sj) (d := d + 2) V R1 hsi38 hsj38 N g l10 PO z1 (fun G2 nd m2 rm2 R2 => ?_)⟩
    have hA1 := R1.rowA
    have cg2 : CgE e b G1 G2 := m2.mono (PL.reg R1.1 hA1)
    have wl2 := WL.md1 R1.2.2.2.2.2.2.2 m2 ((PL.no R1.1 hA1).2.2.1 7 (by decide) (by decide))
    rw [flip_tookF nd] at R2
    have o2 : OpR Z e b 40 180 G1 G2 (tookS S ch false) := ⟨⟨cg2, rm2, R2⟩, fun x hx => by rw [wl2] at hx; exact hx⟩
    have cA2 : ∀ x, callA G2 b (tookS S ch false) x = callA G b S x := fun x => (callA_eq (funext fun y => tookS_off (by decide) (by decide) (by decide)) x).trans ((callA_md1 R1.1 m2 ((PL.no R1.1 hA1).2.1 1 (by decide) (by decide) (by decide) (by decide)) x).trans (cA1 x))
    exact lay G2 _ pa _ _ _ _ o2 cA2 (PO.fp m2 (R1.1.fp.mono (PL.reg R1.1 hA1))) (m2.fz z1) (hr false)
end PACK
