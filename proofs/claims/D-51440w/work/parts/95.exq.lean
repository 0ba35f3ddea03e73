/-! THE EXCHANGE, 26: packing all -/
section PACK2
variable {Z : ZT} {d : Nat} {G : GH} {Q : TR → GH → Prop} {e b : Nat} {S S' T T' : St}
theorem PtrI.eq {k c : Nat} (h : PtrI S k c) (h47 : S' 0 47 = S 0 47) (h48 : S' 48 = S 48) : PtrI S' k c := by
  unfold PtrI
  rw [h47, h48]
  exact h
/-- a row of numbers, beside the exchange -/
def SideA (G : GH) (e w n : Nat) : Prop := gK G w = 100 ∧ gL G w = n ∧ w < gn G ∧ gP G w = gP G e
theorem SideA.md {P : Nat → Prop} {G' : GH} {w n : Nat} (h : SideA G e w n) (he : e < gn G) (m : Md P G G') : SideA G' e w n := by
  obtain ⟨h1, h2, h3, h4⟩ := h
  exact ⟨(m.k h3).trans h1, (m.l h3).trans h2, Nat.lt_of_lt_of_le h3 m.1, by rw [m.p h3, m.p he]; exact h4⟩
theorem SideA.no {w n : Nat} (h : SideA G e w n) (sh : ShE G e b) : ¬ RegE G e b w ∧ ¬ Frz G w := by
  obtain ⟨h1, h2, h3, h4⟩ := h
  obtain ⟨s1, s2, s3⟩ := sh.2.2.2.2.1
  obtain ⟨a1, a2, a3, a4, a5, a6, a7, a8, a9, a10, a11, a12⟩ := sh.2.2.2.2.2.2.2
  have ke := sh.1
  refine ⟨fun hr => ?_, fun hf => ?_⟩
  · unfold RegE at hr
    rw [h4] at hr
    rcases hr with hr | hr | hr | hr | hr | hr | hr
    · rw [hr] at h1; omega
    all_goals
      rw [hr] at s2
      omega
  · have := hf.2.2
    rw [h4] at this
    exact s3 this
theorem SideA.rep {w n i : Nat} {v : Int} (h : SideA G e w n) (R : Rep Z G e b S S) : OpR Z e b 0 0 G G S ∧ Rep Z (setA G w i v) e b S S ∧ (∀ x, callA (setA G w i v) b S x = callA G b S x) ∧ Md (fun c => c = w) G (setA G w i v) ∧ WL (setA G w i v) b = WL G b ∧ capM (setA G w i v) (b + 2) = capM G (b + 2) := by
  have m : Md (fun c => c = w) G (setA G w i v) := Md.rf.setA h.2.2.1 (fun _ => rfl)
  obtain ⟨n1, n2⟩ := h.no R.1
  obtain ⟨r1, r2, r3⟩ := R.md m (fun c _ hr _ hc => n1 (hc ▸ hr)) (fun c hf hc => n2 (hc ▸ hf))
  exact ⟨OpR.rf R, r1, r3, m, r2, rfl⟩
theorem lift_range {c : Nat} : liftS (List.range c ++ [c]) S = liftS (List.range (c + 1)) S := by rw [List.range_succ]
theorem lift_true (h : 0 ≤ S 0 47) : liftS (List.range (S 0 47).toNat) S = lifted S (fun _ => true) := by
  funext f x
  unfold liftS lifted
  by_cases h51 : f = 51 ∧ x < (S 0 47).toNat
  · rw [if_pos ⟨h51.1, List.mem_range.mpr h51.2⟩, if_pos ⟨h51.1, h51.2, rfl⟩]
  · rw [if_neg (fun z => h51 ⟨z.1, List.mem_range.mp z.2⟩), if_neg (fun z => h51 ⟨z.1, z.2.1⟩)]
theorem xc_pack (V : Ok S) (R : Rep Z G e b S S) (E : EnvE Z G) (q : ∀ G', OpR Z e b 9559 53480 G G' (packs S).2 → Q (.inl (some (tI (packs S).1))) G') : TC Z (d + 11) mi_X2_pack [tR (some e)] G Q := by
  have r40 := V.1.r40
  have r46 := V.1.r46
  have r47 := V.1.r47
  have W := V.1.rw
  have en := R.1.2.1
  obtain ⟨fr1, fr2⟩ := few_rng V.1 V.2.1
  have kb := cutN R V.1
  obtain ⟨pk1, pk2, pk3⟩ := pack1_ok V
  -- counting what moved
  have loop3 : ∀ (r k c : Nat) (cnt : Int) (S1 : St) (G1 : GH) (x1 : Int) (w : Nat), k + r = (S 0 46).toNat → PtrI S1 k c → Inv S1 → (∀ f x, f ≠ 51 → f ≠ 54 → S1 f x = S f x) → OpR Z e b 9559 53480 G G1 S1 → SideA G1 e w (S 0 46).toNat → (∀ x : Nat, x < (S 0 47).toNat → aI G1 w (S 48 x).toNat = S 51 x) → 0 ≤ cnt → cnt ≤ c →
      movedL (S 51) ((S 0 47).toNat - c) c cnt S1 = packs S → TW Z mi_X2_pack (d + 11) 107 [some (tR (some e)), some (tI x1), some (tR (some w)), some (tI cnt), some (tI (k : Int))] [] G1 Q := by
    intro r
    induction r with
    | zero =>
      intro k c cnt S1 G1 x1 w hk P V1 eq o sw hw c0 c1 hf
      have R1 := o.1.2.2
      have e46 : S1 0 46 = S 0 46 := eq 0 46 (by decide) (by decide)
      have e47 : S1 0 47 = S 0 47 := eq 0 47 (by decide) (by decide)
      have pe := P.end V1 (by omega)
      rw [pe, e47, Nat.sub_self] at hf
      have hf : (cnt, S1) = packs S := hf
      rw [← hf] at q
      exact r_X2_pack_107 ⟨R1.k, by omega, by rw [R1.f46]; omega, fun _ => q G1 o, fun hn => by rw [R1.f46] at hn; omega⟩
    | succ r ih =>
      intro k c cnt S1 G1 x1 w hk P V1 eq o sw hw c0 c1 hf
      have R1 := o.1.2.2
      have e46 : S1 0 46 = S 0 46 := eq 0 46 (by decide) (by decide)
      have e47 : S1 0 47 = S 0 47 := eq 0 47 (by decide) (by decide)
      have cN := P.1
      have k12 := R1.1.2.2.2.2.2.1.1
      have kb1 := R1.1.2.2.2.2.2.2.2.1
      have lb1 := R1.1.2.2.2.2.2.2.2.2.1
      refine r_X2_pack_107 ⟨R1.k, by omega, by rw [R1.f46]; omega, fun hn => by rw [R1.f46] at hn; omega, fun _ v2 hv2 => ⟨b + 1, hv2.symm.trans k12, Or.inl kb1, by rw [lb1]; omega, fun v6 hv6 => ?_⟩⟩
      rw [Int.toNat_natCast, R1.at V1 P (by omega)] at hv6
      by_cases hh : c < (S1 0 47).toNat ∧ S1 48 c = (k : Int)
      · have hv : aR G1 (b + 1) k = some (callA G1 b S1 c) := by rw [R1.at V1 P (by omega), if_pos hh]
        rw [if_pos hh] at hv6
        obtain ⟨hc, h48⟩ := hh
        have C := R1.co hc
        have rc := V1.row hc
        rw [show (S 0 47).toNat - c = ((S 0 47).toNat - (c + 1)) + 1 by omega] at hf
        have hf : (if S1 51 c = S 51 c then movedL (S 51) ((S 0 47).toNat - (c + 1)) (c + 1) cnt S1 else movedL (S 51) ((S 0 47).toNat - (c + 1)) (c + 1) (cnt + 1) (up2 S1 54 c (S1 54 c + 1))) = packs S := hf
        have f110 : fI G1 110 (callA G1 b S1 c) = S1 51 c := C.2.2.2.2.2.2.2.2.1
        have f111 : fI G1 111 (callA G1 b S1 c) = S1 54 c := C.2.2.2.2.2.2.2.2.2
        have h48' : (S 48 c).toNat = k := by have := eq 48 c (by decide) (by decide); omega
        have aw : aI G1 w k = S 51 c := by rw [← h48']; exact hw c (by omega)
        have rS := V.1.row (c := c) (by omega)
        obtain ⟨y1, y2, y3, y4⟩ := sw
        refine ⟨fun hn => (by rw [← hv6] at hn; cases hn), fun a8 ha8 v10 hv10 => ⟨b + 1, hv10.symm.trans k12, Or.inl kb1, by rw [lb1]; omega, fun v14 hv14 => ⟨callA G1 b S1 c, ?_, C.1, w, rfl, Or.inl y1, by rw [y2]; omega, by rw [f110]; have := rc.2.2.2.1; omega, by rw [Int.toNat_natCast, aw]; have := rS.2.2.2.1; omega, fun hne => fun v21 hv21 => ⟨b + 1, hv21.symm.trans k12, Or.inl kb1, by rw [lb1]; omega, fun v25 hv25 => ⟨callA G1 b S1 c, ?_, C.1, callA G1 b S1 c, ?_, C.1, ?_⟩⟩, fun he => ?_⟩⟩⟩
        · rw [← hv14, Int.toNat_natCast]; exact hv
        · rw [← hv25, Int.toNat_natCast]; exact hv
        · rw [← hv25, Int.toNat_natCast]; exact hv
        · rw [f110, Int.toNat_natCast, aw] at hne
          rw [if_neg hne] at hf
          rw [f111]
          obtain ⟨o2, cA2⟩ := op_moved (v := S1 54 c + 1) R1 V1.rw hc
          have sw' : SideA G1 e w (S 0 46).toNat := ⟨y1, y2, y3, y4⟩
          obtain ⟨nr, nf⟩ := sw'.no R1.1
          have sm := o2.1.1.sm y3 nr
          refine ih (k + 1) (c + 1) (cnt + 1) (up2 S1 54 c (S1 54 c + 1)) _ x1 w (by omega) ((P.hit V1 hc h48).eq (up2_ne (Or.inl (by decide))) (funext fun y => up2_ne (Or.inl (by decide)))) (V1.ext (fun f y h1 h2 => up2_ne (Or.inl h1))) (fun f y h1 h2 => (up2_ne (Or.inl h2)).trans (eq f y h1 h2)) ((o.trans o2).mono (by omega) (by omega)) (sw'.md R1.1.2.1 o2.1.1) (fun y hy => ((sm.2.2.2.2 _).1).trans (hw y hy)) (by omega) (by omega) hf
        · rw [f110, Int.toNat_natCast, aw] at he
          rw [if_pos he] at hf
          exact ih (k + 1) (c + 1) cnt S1 G1 x1 w (by omega) (P.hit V1 hc h48) V1 eq o ⟨y1, y2, y3, y4⟩ hw c0 (by omega) hf
      · rw [if_neg hh] at hv6
        exact ⟨fun _ => ih (k + 1) c cnt S1 G1 x1 w (by omega) (P.miss V1 hh) V1 eq o sw hw c0 c1 hf, fun a8 ha8 => by rw [← hv6] at ha8; cases ha8⟩
  -- packing one by one
  have loop2 : ∀ (r k c : Nat) (S1 : St) (G1 : GH) (x1 : Int) (w : Nat) (o4 : Option Value), k + r = (S 0 46).toNat → PtrI S1 k c → PackI (fewest S) ((S 0 47).toNat - c) c S1 → (∀ f x, f ≠ 51 → S1 f x = S f x) → OpR Z e b (1 + 531 * c) (200 + 2960 * c) G G1 S1 → EnvE Z G1 → SetIs S x1 (fewest S) → SideA G1 e w (S 0 46).toNat → (∀ x : Nat, x < (S 0 47).toNat → aI G1 w (S 48 x).toNat = S 51 x) →
      packL (fewest S) ((S 0 47).toNat - c) c S1 = packL (fewest S) (S 0 47).toNat 0 (lifted S (fun _ => true)) → TW Z mi_X2_pack (d + 11) 68 [some (tR (some e)), some (tI x1), some (tR (some w)), some (tI (k : Int)), o4] [] G1 Q := by
    intro r
    induction r with
    | zero =>
      intro k c S1 G1 x1 w o4 hk P I eq o E1 hs sw hw hf
      have R1 := o.1.2.2
      have e46 : S1 0 46 = S 0 46 := eq 0 46 (by decide)
      have e47 : S1 0 47 = S 0 47 := eq 0 47 (by decide)
      have V1 := I.1
      have pe := P.end V1 (by omega)
      rw [pe, e47] at hf o
      rw [Nat.sub_self] at hf
      have hf : S1 = packL (fewest S) (S 0 47).toNat 0 (lifted S (fun _ => true)) := hf
      refine r_X2_pack_68 ⟨R1.k, by omega, by rw [R1.f46]; omega, fun _ => ?_, fun hn => by rw [R1.f46] at hn; omega⟩
      refine loop3 (S 0 46).toNat 0 0 0 S1 G1 x1 w (by omega) (PtrI.zero V1) V1 (fun f y h1 _ => eq f y h1) (o.mono (by omega) (by omega)) sw hw (Int.le_refl _) (Int.le_refl _) ?_
      rw [hf, Nat.sub_zero]
      rfl
    | succ r ih =>
      intro k c S1 G1 x1 w o4 hk P I eq o E1 hs sw hw hf
      have R1 := o.1.2.2
      have e46 : S1 0 46 = S 0 46 := eq 0 46 (by decide)
      have e47 : S1 0 47 = S 0 47 := eq 0 47 (by decide)
      have V1 := I.1
      have cN := P.1
      have k12 := R1.1.2.2.2.2.2.1.1
      have kb1 := R1.1.2.2.2.2.2.2.2.1
      have lb1 := R1.1.2.2.2.2.2.2.2.2.1
      refine r_X2_pack_68 ⟨R1.k, by omega, by rw [R1.f46]; omega, fun hn => by rw [R1.f46] at hn; omega, fun _ v2 hv2 => ⟨b + 1, hv2.symm.trans k12, Or.inl kb1, by rw [lb1]; omega, fun v6 hv6 => ?_⟩⟩
      rw [Int.toNat_natCast, R1.at V1 P (by omega)] at hv6
      by_cases hh : c < (S1 0 47).toNat ∧ S1 48 c = (k : Int)
      · have hv : aR G1 (b + 1) k = some (callA G1 b S1 c) := by rw [R1.at V1 P (by omega), if_pos hh]
        rw [if_pos hh] at hv6
        obtain ⟨hc, h48⟩ := hh
        have er : (S 0 47).toNat - c = ((S 0 47).toNat - (c + 1)) + 1 := by omega
        rw [er] at I hf
        have hf : packL (fewest S) ((S 0 47).toNat - (c + 1)) (c + 1) (packStep (fewest S) c S1) = packL (fewest S) (S 0 47).toNat 0 (lifted S (fun _ => true)) := hf
        have h51 : S1 51 c = -1 := by have := I.2.2.2.1 0 (by omega); rwa [Nat.add_zero] at this
        obtain ⟨I2, eq2⟩ := I.step
        refine ⟨fun hn => (by rw [← hv6] at hn; cases hn), fun a8 ha8 v10 hv10 => ⟨b + 1, hv10.symm.trans k12, Or.inl kb1, by rw [lb1]; omega, fun v14 hv14 => ?_⟩⟩
        have ev : v14 = some (callA G1 b S1 c) := by rw [← hv14, Int.toNat_natCast]; exact hv
        subst ev
        refine xc_packOne V1 R1 E1 hc h51 (hs.eq (eq 0 40 (by decide)) (eq 0 41 (by decide))) I.some (fun G2 o2 cA2 => r_X2_pack_96 ?_)
        obtain ⟨nr, nf⟩ := sw.no R1.1
        have sm := o2.1.1.sm sw.2.2.1 nr
        exact ih (k + 1) (c + 1) _ G2 x1 w o4 (by omega) ((P.hit V1 hc h48).eq (eq2 0 47 (by decide)) (funext fun y => eq2 48 y (by decide))) I2 (fun f y h1 => (eq2 f y h1).trans (eq f y h1)) ((o.trans o2).mono (by omega) (by omega)) (E1.op R1 o2) hs (sw.md R1.1.2.1 o2.1.1) (fun y hy => ((sm.2.2.2.2 _).1).trans (hw y hy)) hf
      · rw [if_neg hh] at hv6
        exact ⟨fun _ => ih (k + 1) c S1 G1 x1 w o4 (by omega) (P.miss V1 hh) I eq o E1 hs sw hw hf, fun a8 ha8 => by rw [← hv6] at ha8; cases ha8⟩
  -- lifting all
  have loop1 : ∀ (r k c : Nat) (G1 : GH) (x1 : Int) (w : Nat) (o4 : Option Value), k + r = (S 0 46).toNat → gn G ≤ w → PtrI S k c → OpR Z e b 1 200 G G1 (liftS (List.range c) S) → EnvE Z G1 → SetIs S x1 (fewest S) → SideA G1 e w (S 0 46).toNat → (∀ x : Nat, x < c → aI G1 w (S 48 x).toNat = S 51 x) →
      TW Z mi_X2_pack (d + 11) 18 [some (tR (some e)), some (tI x1), some (tR (some w)), some (tI (k : Int)), o4] [] G1 Q := by
    intro r
    induction r with
    | zero =>
      intro k c G1 x1 w o4 hk hwn P o E1 hs sw hw
      have R1 := o.1.2.2
      have l0 : ∀ k, liftS (List.range c) S 0 k = S 0 k := fun k => liftS_ne (by decide)
      have pe := P.end V.1 (by omega)
      subst pe
      refine r_X2_pack_18 ⟨R1.k, by omega, by rw [R1.f46, l0]; omega, fun _ => ?_, fun hn => by rw [R1.f46, l0] at hn; omega⟩
      rw [lift_true r47.1] at o
      refine loop2 (S 0 46).toNat 0 0 _ G1 x1 w o4 (by omega) (PtrI.zero (V.1.lift _)) (by rw [Nat.sub_zero]; exact pack_start V) (fun f y h1 => lifted_off h1) (o.mono (by omega) (by omega)) E1 hs sw hw (by rw [Nat.sub_zero])
    | succ r ih =>
      intro k c G1 x1 w o4 hk hwn P o E1 hs sw hw
      have R1 := o.1.2.2
      have l0 : ∀ k, liftS (List.range c) S 0 k = S 0 k := fun k => liftS_ne (by decide)
      have cN := P.1
      have k12 := R1.1.2.2.2.2.2.1.1
      have kb1 := R1.1.2.2.2.2.2.2.2.1
      have lb1 := R1.1.2.2.2.2.2.2.2.2.1
      have VL : Inv (liftS (List.range c) S) := by
        have : liftS (List.range c) S = lifted S (fun x => decide (x < c)) := by
          funext f x
          unfold liftS lifted
          by_cases h51 : f = 51 ∧ x < c
          · rw [if_pos ⟨h51.1, List.mem_range.mpr h51.2⟩, if_pos ⟨h51.1, by omega, decide_eq_true h51.2⟩]
          · rw [if_neg (fun z => h51 ⟨z.1, List.mem_range.mp z.2⟩), if_neg (fun z => h51 ⟨z.1, of_decide_eq_true z.2.2⟩)]
        rw [this]
        exact V.1.lift _
      have PL' : PtrI (liftS (List.range c) S) k c := P.eq (l0 47) (funext fun y => liftS_ne (by decide))
      refine r_X2_pack_18 ⟨R1.k, by omega, by rw [R1.f46, l0]; omega, fun hn => by rw [R1.f46, l0] at hn; omega, fun _ v2 hv2 => ⟨b + 1, hv2.symm.trans k12, Or.inl kb1, by rw [lb1]; omega, fun v6 hv6 => ?_⟩⟩
      rw [Int.toNat_natCast, R1.at VL PL' (by omega)] at hv6
      by_cases hh : c < (S 0 47).toNat ∧ S 48 c = (k : Int)
      · have hh' : c < (liftS (List.range c) S 0 47).toNat ∧ liftS (List.range c) S 48 c = (k : Int) := by rw [l0, liftS_ne (by decide)]; exact hh
        have hv : aR G1 (b + 1) k = some (callA G1 b (liftS (List.range c) S) c) := by rw [R1.at VL PL' (by omega), if_pos hh']
        rw [if_pos hh'] at hv6
        obtain ⟨hc, h48⟩ := hh
        have C := R1.co hh'.1
        have rc := V.1.row hc
        have lc := V.2.1 c hc
        have s51 : liftS (List.range c) S 51 c = S 51 c := liftS_out (by simp)
        obtain ⟨mm, hmm⟩ : ∃ mm : Nat, S 51 c = (mm : Int) := ⟨(S 51 c).toNat, by have := rc.2.2.2.1; omega⟩
        have f110 : fI G1 110 (callA G1 b (liftS (List.range c) S) c) = S 51 c := C.2.2.2.2.2.2.2.2.1.trans s51
        obtain ⟨y1, y2, y3, y4⟩ := id sw
        refine ⟨fun hn => (by rw [← hv6] at hn; cases hn), fun a8 ha8 v10 hv10 => ⟨b + 1, hv10.symm.trans k12, Or.inl kb1, by rw [lb1]; omega, fun v14 hv14 => ⟨callA G1 b (liftS (List.range c) S) c, ?_, C.1, w, rfl, y1, by rw [y2]; omega, fun v20 hv20 => ⟨b + 1, hv20.symm.trans k12, Or.inl kb1, by rw [lb1]; omega, fun v24 hv24 => ?_⟩⟩⟩⟩
        · rw [← hv14, Int.toNat_natCast]; exact hv
        · have ev : v24 = some (callA G1 b (liftS (List.range c) S) c) := by rw [← hv24, Int.toNat_natCast]; exact hv
          subst ev
          rw [f110, Int.toNat_natCast]
          obtain ⟨-, R2, cA2, m2, wl2, cm2⟩ := sw.rep (i := k) (v := S 51 c) R1
          have E2 : EnvE Z (setA G1 w k (S 51 c)) := E1.md m2 (fun x hf hx => (sw.no R1.1).2 (hx ▸ hf))
          have sw2 := sw.md R1.1.2.1 m2
          rw [← cA2]
          refine op_lift (d := d + 4) (m := mm) R2 VL.rw VL.2.1 hh'.1 (by have := rc.2.2.2.1; omega) (s51.trans hmm) (fun G3 o3 cA3 => r_X2_pack_60 ?_)
          rw [up_lift, lift_range] at o3
          obtain ⟨nr, nf⟩ := sw2.no R2.1
          have sm := o3.1.1.sm sw2.2.2.1 nr
          have o23 : OpR Z e b 1 200 G G3 (liftS (List.range (c + 1)) S) := by
            obtain ⟨⟨g1, g2, g3⟩, g4⟩ := o
            obtain ⟨⟨k1, k2, k3⟩, k4⟩ := o3
            -- w was new
            refine ⟨⟨?_, ?_, k3⟩, fun x hx => ?_⟩
            · refine Md.trans' (Md.trans' g1 m2 (fun x hx hxw => ?_)) k1 (fun x hx hr => ?_)
              · exfalso
                omega
              · have e1 : gP (setA G1 w k (S 51 c)) x = gP G x := g1.p hx
                unfold RegE at hr ⊢
                rw [e1] at hr
                exact hr
            · have r1 : Rm 0 0 G1 (setA G1 w k (S 51 c)) (b + 2) := Rm.same cm2 (Nat.le_refl _) (Nat.le_refl _)
              exact (g2.trans r1).trans k2
            · exact g4 x (by rw [← wl2]; exact k4 x hx)
          refine ih (k + 1) (c + 1) G3 x1 w o4 (by omega) hwn (P.hit V.1 hc h48) o23 (E2.op R2 o3) hs (sw2.md R2.1.2.1 o3.1.1) (fun y hy => ?_)
          rw [(sm.2.2.2.2 _).1]
          by_cases hyc : y = c
          · rw [hyc, show (S 48 c).toNat = k by omega]; exact hA_at
          · rw [hA_ne (Or.inr (by
              have h1 := V.1.2.2.2.1 y c (by omega) hc
              have h2 := (V.1.row (c := y) (by omega)).1
              omega))]
            exact hw y (by omega)
      · have hh' : ¬ (c < (liftS (List.range c) S 0 47).toNat ∧ liftS (List.range c) S 48 c = (k : Int)) := by rw [l0, liftS_ne (by decide)]; exact hh
        rw [if_neg hh'] at hv6
        exact ⟨fun _ => ih (k + 1) c G1 x1 w o4 (by omega) hwn (P.miss V.1 hh) o E1 hs sw hw, fun a8 ha8 => by rw [← hv6] at ha8; cases ha8⟩
  refine c_X2_pack ⟨R.k, xc_needed (d := d + 6) V.1 R (r_X2_pack_5 ⟨e, rfl, R.k, xc_lowest (d := d + 1) V.1 R E.2.1 ⟨fr1.1, by omega⟩ (fun x1 hs => r_X2_pack_8 (gP G e) ⟨R.k, by rw [R.f46]; omega, ?_⟩)⟩)⟩
  rw [R.f46]
  have pe := R.1.2.2.2.2.1.1
  have m0 : Md (fun _ => False) G (newG G 100 (S 0 46).toNat (gP G e) (S 0 46).toNat) := Md.rf.new (by omega)
  have k0 : gK (newG G 100 (S 0 46).toNat (gP G e) (S 0 46).toNat) (gn G) = 100 := gK_new
  have l0 : gL (newG G 100 (S 0 46).toNat (gP G e) (S 0 46).toNat) (gn G) = (S 0 46).toNat := gL_new (N := (S 0 46).toNat)
  have p0 : gP (newG G 100 (S 0 46).toNat (gP G e) (S 0 46).toNat) (gn G) = gP G e := gP_new (N := (S 0 46).toNat)
  have n0 : gn (newG G 100 (S 0 46).toNat (gP G e) (S 0 46).toNat) = gn G + 1 := rfl
  have s0 : gs (newG G 100 (S 0 46).toNat (gP G e) (S 0 46).toNat) = gs G + (S 0 46).toNat := rfl
  generalize newG G 100 (S 0 46).toNat (gP G e) (S 0 46).toNat = G1 at *
  obtain ⟨R1, wl1, cA1⟩ := R.md m0 (fun _ _ _ _ h => h) (fun _ _ h => h)
  have cm : capM G1 (b + 2) = capM G (b + 2) := capM_mv (R.2.2.2.1.choose_spec.choose_spec.1) m0 id
  refine loop1 (S 0 46).toNat 0 0 G1 x1 (gn G) none (by omega) (Nat.le_refl _) (PtrI.zero V.1) ?_ (E.md m0 (fun _ _ h => h)) hs ⟨k0, l0, by omega, by rw [p0, m0.p en]⟩ (fun x hx => absurd hx (Nat.not_lt_zero x))
  rw [show List.range 0 = [] from rfl, liftS_nil]
  exact ⟨⟨m0.mono (fun _ _ h => h.elim), Rm.same cm (by omega) (by omega), R1⟩, fun x hx => by rw [wl1] at hx; exact hx⟩
end PACK2
