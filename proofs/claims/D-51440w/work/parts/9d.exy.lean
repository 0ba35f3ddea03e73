/-! THE EXCHANGE, 33: copying, loop by loop -/
section COPY3
variable {Z : ZT} {d : Nat} {G G1 : GH} {Q : TR → GH → Prop} {e b : Nat} {S S' T T' : St}
/-- the calls -/
theorem cp_calls (hp : CpH Z G G1 e b S) (o1 : Op0 Z (gn G) (gn G) 0 0 G1 G1 (cpS S 0 0 0 0)) (w1 : WL G1 (gn G) = [])
    (q : ∀ (H : GH) (o3 : Option Value), Op0 Z (gn G) (gn G) 90 450 G1 H (cpS S (S 0 47).toNat 0 0 0) → WL H (gn G) = [] → TW Z mi_X2_copy (d + 10) 74 [some (tR (some e)), some (tR (some (gn G))), some (tI 0), o3] [] H Q) :
    ∀ (o3 : Option Value), TW Z mi_X2_copy (d + 10) 22 [some (tR (some e)), some (tR (some (gn G))), some (tI 0), o3] [] G1 Q := by
  have V := hp.2.1
  have r46 := V.1.r46
  have r47 := V.1.r47
  have loop : ∀ (r k c : Nat) (H : GH) (o3 : Option Value), k + r = (S 0 46).toNat → PtrI S k c → Op0 Z (gn G) (gn G) (5 * c) (25 * c) G1 H (cpS S c 0 0 0) → WL H (gn G) = [] → TW Z mi_X2_copy (d + 10) 22 [some (tR (some e)), some (tR (some (gn G))), some (tI (k : Int)), o3] [] H Q := by
    intro r
    induction r with
    | zero =>
      intro k c H o3 hk P o wl
      obtain ⟨mH, RH, EH, wlH, cAH⟩ := hp.at o
      have pe := P.end V.1 (by omega)
      subst pe
      exact r_X2_copy_22 ⟨RH.k, by omega, by rw [RH.f46]; omega, fun _ => q H o3 (o.mono (by omega) (by omega)) wl, fun hn => by rw [RH.f46] at hn; omega⟩
    | succ r ih =>
      intro k c H o3 hk P o wl
      obtain ⟨mH, RH, EH, wlH, cAH⟩ := hp.at o
      have RP := o.2.2
      have cN := P.1
      have k12 := RH.1.2.2.2.2.2.1.1
      have kb1 := RH.1.2.2.2.2.2.2.2.1
      have lb1 := RH.1.2.2.2.2.2.2.2.2.1
      refine r_X2_copy_22 ⟨RH.k, by omega, by rw [RH.f46]; omega, fun hn => by rw [RH.f46] at hn; omega, fun _ v2 hv2 => ⟨b + 1, hv2.symm.trans k12, Or.inl kb1, by rw [lb1]; omega, fun v6 hv6 => ?_⟩⟩
      rw [Int.toNat_natCast, RH.at V.1 P (by omega)] at hv6
      by_cases hh : c < (S 0 47).toNat ∧ S 48 c = (k : Int)
      · have hv : aR H (b + 1) k = some (callA H b S c) := by rw [RH.at V.1 P (by omega), if_pos hh]
        rw [if_pos hh] at hv6
        obtain ⟨hc, h48⟩ := hh
        have C := RH.co hc
        refine ⟨fun hn => (by rw [← hv6] at hn; cases hn), fun a8 ha8 v10 hv10 => ⟨b + 1, hv10.symm.trans k12, Or.inl kb1, by rw [lb1]; omega, fun v14 hv14 => ⟨callA H b S c, ?_, C.1, ?_⟩⟩⟩
        · rw [← hv14, Int.toNat_natCast]; exact hv
        refine xc_copyCall (d := d + 7) RP EH.2.2.2 C (fun H2 o2 m2 wl2 ca => r_X2_copy_51 ⟨gn G, rfl, o2.2.2.k, ?_⟩)
        refine cp_one (d := d + 3) V o2.2.2 (m2.fz EH.2.2.2) hc ca (fun H3 o4 wl3 => r_X2_copy_66 ?_)
        exact ih (k + 1) (c + 1) H3 _ (by omega) (P.hit V.1 hc h48) (((o.trans o2).trans o4).mono (by omega) (by omega)) (wl3.trans (wl2.trans wl))
      · rw [if_neg hh] at hv6
        exact ⟨fun _ => ih (k + 1) c H o3 (by omega) (P.miss V.1 hh) o wl, fun a8 ha8 => by rw [← hv6] at ha8; cases ha8⟩
  intro o3
  exact loop (S 0 46).toNat 0 0 G1 o3 (by omega) (PtrI.zero V.1) o1 w1
/-- what is cut -/
theorem cp_cuts (hp : CpH Z G G1 e b S) (o3 : Option Value)
    (q : ∀ (H : GH) (w : Nat), w < 512 → (∀ m : Nat, m < (S 0 40).toNat → w.testBit m = isCutB S (m : Int)) → Op0 Z (gn G) (gn G) 126 1656 G1 H (cpS S (S 0 47).toNat (w : Int) 0 0) → WL H (gn G) = [] → TW Z mi_X2_copy (d + 10) 109 [some (tR (some e)), some (tR (some (gn G))), some (tI 0), o3] [] H Q) :
    ∀ (H : GH), Op0 Z (gn G) (gn G) 90 450 G1 H (cpS S (S 0 47).toNat 0 0 0) → WL H (gn G) = [] → TW Z mi_X2_copy (d + 10) 74 [some (tR (some e)), some (tR (some (gn G))), some (tI 0), o3] [] H Q := by
  have V := hp.2.1
  have r40 := V.1.r40
  have loop : ∀ (r k w : Nat) (H : GH), k + r = (S 0 40).toNat → w < 512 → (∀ m : Nat, w.testBit m = (decide (m < k) && isCutB S (m : Int))) → Op0 Z (gn G) (gn G) (90 + 4 * k) (450 + 134 * k) G1 H (cpS S (S 0 47).toNat (w : Int) 0 0) → WL H (gn G) = [] →
      TW Z mi_X2_copy (d + 10) 74 [some (tR (some e)), some (tR (some (gn G))), some (tI (k : Int)), o3] [] H Q := by
    intro r
    induction r with
    | zero =>
      intro k w H hk hw hb o wl
      obtain ⟨mH, RH, EH, wlH, cAH⟩ := hp.at o
      refine r_X2_copy_74 ⟨RH.k, by omega, by rw [RH.f40]; omega, fun _ => q H w hw (fun m hm => ?_) (o.mono (by omega) (by omega)) wl, fun hn => by rw [RH.f40] at hn; omega⟩
      rw [hb m, decide_eq_true (by omega), Bool.true_and]
    | succ r ih =>
      intro k w H hk hw hb o wl
      obtain ⟨mH, RH, EH, wlH, cAH⟩ := hp.at o
      have RP := o.2.2
      obtain ⟨n, f, C, hn, hf⟩ := RH.tail.1
      have k15 := RH.1.2.2.2.2.2.1.2.2.2.1
      refine r_X2_copy_74 ⟨RH.k, by omega, by rw [RH.f40]; omega, fun hn => by rw [RH.f40] at hn; omega, fun _ v2 hv2 => jc_valueOf (d := d + 8) EH.2.1 (by omega) (fun a ha => r_X2_copy_90 ⟨b + 3, hv2.symm.trans k15, C.1, js_has (d := d + 2) C ⟨ha, by omega, by omega⟩ (r_X2_copy_93 ?_)⟩)⟩
      have hfk := hf k (by omega)
      cases hc : isCutB S (k : Int)
      · rw [if_pos (hfk.mpr hc)]
        refine ⟨by decide, fun _ => ?_, fun hn => absurd rfl hn⟩
        refine ih (k + 1) w H (by omega) hw (fun m => ?_) (o.mono (by omega) (by omega)) wl
        rw [hb m]
        by_cases hm : k = m
        · subst hm
          rw [hc]
          simp
        · congr 1
          exact decide_eq_decide.mpr (by omega)
      · rw [if_neg (fun z => by rw [hfk.mp z] at hc; cases hc)]
        refine ⟨by decide, fun hn => absurd hn (by decide), fun _ => ⟨gn G, rfl, RP.k, ?_⟩⟩
        have e41 : cpS S (S 0 47).toNat (w : Int) 0 0 0 41 = (w : Int) := cpS_41
        have e40 : cpS S (S 0 47).toNat (w : Int) 0 0 0 40 = S 0 40 := cpS_s (by decide)
        have nc : isCutB (cpS S (S 0 47).toNat (w : Int) 0 0) (k : Int) = false := by
          rw [cut_bit (by rw [e41]; omega) (by omega), e41, Int.toNat_natCast, Int.toNat_natCast, hb k, decide_eq_false (by omega), Bool.false_and]
        refine xc_cutsR (d := d) (by rw [e40]; exact r40) (by rw [e41]; omega) RP EH (by rw [e40]; omega) nc (fun H2 o2 _ => r_X2_copy_101 ?_)
        rw [e41, cpS_up41] at o2
        have eo := or_nat ⟨k, by omega⟩ ⟨w, hw⟩
        dsimp only at eo
        rw [eo] at o2
        have wl2 : WL H2 (gn G) = [] := List.eq_nil_iff_forall_not_mem.mpr (fun x hx => by have := o2.2 x hx; rw [wl] at this; cases this)
        refine ih (k + 1) (w ||| 2 ^ k) H2 (by omega) (or_lt hw (by omega)) (fun m => ?_) ((o.trans o2.1).mono (by omega) (by omega)) wl2
        rw [bit_or, hb m]
        by_cases hm : k = m
        · subst hm
          rw [hc]
          simp
        · rw [decide_eq_false hm, Bool.or_false]
          congr 1
          exact decide_eq_decide.mpr (by omega)
  intro H o wl
  exact loop (S 0 40).toNat 0 0 H (by omega) (by decide) (fun m => by simp) o wl
theorem names_ne (V : Inv S) {g g' : Nat} (h : g < g') (hg' : g' < (S 0 60).toNat) : gword S g ≠ gword S g' := by
  intro e
  have gr := V.1.2.2.2 g (by omega)
  have gr' := V.1.2.2.2 g' hg'
  have last := V.2.2.2.2.2.2.2.2.2.2.2.2 g g' h hg'
  have el : (S 61 g).toNat = (S 61 g').toNat := by
    have := congrArg List.length e
    unfold gword at this
    rw [List.length_map, List.length_map, List.length_range, List.length_range] at this
    exact this
  have h1 := gr.1
  have h2 := gr'.1
  refine last (by omega) (fun i hi => ?_)
  have hx := congrArg (fun l => l[i]?) e
  unfold gword at hx
  rw [List.getElem?_map, List.getElem?_map, List.getElem?_range hi, List.getElem?_range (by omega)] at hx
  simp only [Option.map_some, Option.some.injEq] at hx
  have a1 := gr.2.1 i hi
  have a2 := gr'.2.1 i (by omega)
  omega
/-- the groups -/
theorem cp_groups (hp : CpH Z G G1 e b S) (o3 : Option Value) {v : Int}
    (q : ∀ (H : GH), Op0 Z (gn G) (gn G) 146 2232 G1 H (cpS S (S 0 47).toNat v (S 0 60).toNat 0) → WL H (gn G) = [] → TW Z mi_X2_copy (d + 10) 147 [some (tR (some e)), some (tR (some (gn G))), some (tI 0), o3] [] H Q) :
    ∀ (H : GH), Op0 Z (gn G) (gn G) 126 1656 G1 H (cpS S (S 0 47).toNat v 0 0) → WL H (gn G) = [] → TW Z mi_X2_copy (d + 10) 109 [some (tR (some e)), some (tR (some (gn G))), some (tI 0), o3] [] H Q := by
  have V := hp.2.1
  have r60 := V.1.r60
  have loop : ∀ (r g : Nat) (H : GH), g + r = (S 0 60).toNat → Op0 Z (gn G) (gn G) (126 + 5 * g) (1656 + 144 * g) G1 H (cpS S (S 0 47).toNat v g 0) → WL H (gn G) = [] →
      TW Z mi_X2_copy (d + 10) 109 [some (tR (some e)), some (tR (some (gn G))), some (tI (g : Int)), o3] [] H Q := by
    intro r
    induction r with
    | zero =>
      intro g H hg o wl
      obtain ⟨mH, RH, EH, wlH, cAH⟩ := hp.at o
      obtain ⟨gl, g1, g2, g3⟩ := RH.tail.2.2.1
      have k17 := RH.1.2.2.2.2.2.1.2.2.2.2.2.1
      have eg : g = (S 0 60).toNat := by omega
      subst eg
      exact r_X2_copy_109 ⟨RH.k, fun v1 hv1 => ⟨b + 6, hv1.symm.trans k17, g1.1, jc_size (d := d + 8) g1 (r_X2_copy_119 ⟨by omega, by omega, fun _ => q H (o.mono (by omega) (by omega)) wl, fun hn => by omega⟩)⟩⟩
    | succ r ih =>
      intro g H hg o wl
      obtain ⟨mH, RH, EH, wlH, cAH⟩ := hp.at o
      have RP := o.2.2
      obtain ⟨gl, g1, g2, g3⟩ := RH.tail.2.2.1
      have k17 := RH.1.2.2.2.2.2.1.2.2.2.2.2.1
      have GO := g3 g (by omega)
      have cf : ∀ f, f ≠ 0 → f ≠ 65 → cpS S (S 0 47).toNat v g 0 f = S f := fun f h0 h1 => funext fun x => cpS_f h0 h1
      have e60 : (cpS S (S 0 47).toNat v g 0 0 60).toNat = g := by rw [cpS_60]; exact Int.toNat_natCast g
      refine r_X2_copy_109 ⟨RH.k, fun v1 hv1 => ⟨b + 6, hv1.symm.trans k17, g1.1, jc_size (d := d + 8) g1 (r_X2_copy_119 ⟨by omega, by omega, fun hn => by omega, fun _ => ⟨RH.k, fun v2 hv2 => ⟨b + 6, hv2.symm.trans k17, g1.1, jc_get (d := d + 6) g1 (by omega) (r_X2_copy_133 ⟨fun b' hb' => by cases hb'; exact GO.1, gn G, rfl, RP.k, ?_⟩)⟩⟩⟩)⟩⟩
      refine xc_join (d := d + 3) RP EH (by rw [cpS_60]; omega) (by rw [e60]; exact GO.eq (cf 61 (by decide) (by decide)) (cf 62 (by decide) (by decide)) (cf 63 (by decide) (by decide)) (cf 64 (by decide) (by decide))) (fun g' hg' => ?_) (fun H2 o2 wl2 => r_X2_copy_139 ?_)
      · rw [e60] at hg' ⊢
        rw [gword_eq (cf 61 (by decide) (by decide)) (cf 62 (by decide) (by decide)), gword_eq (cf 61 (by decide) (by decide)) (cf 62 (by decide) (by decide))]
        exact names_ne V.1 hg' (by omega)
      · rw [cpS_up60] at o2
        exact ih (g + 1) H2 (by omega) ((o.trans o2.1).mono (by omega) (by omega)) (wl2.trans wl)
  intro H o wl
  exact loop (S 0 60).toNat 0 H (by omega) o wl
/-- the waiters -/
theorem cp_waiters (hp : CpH Z G G1 e b S) (o3 : Option Value) {v : Int}
    (q : ∀ (H : GH), Op0 Z (gn G) (gn G) 154 2312 G1 H (cpS S (S 0 47).toNat v (S 0 60).toNat (S 0 55).toNat) → WL H (gn G) = WL G b → TW Z mi_X2_copy (d + 10) 195 [some (tR (some e)), some (tR (some (gn G))), some (tI (((S 0 55).toNat : Nat) : Int)), o3] [tI 13, tI 0, tR (some (gn G + 8)), tI 0, tR (some (b + 8))] H Q) :
    ∀ (H : GH), Op0 Z (gn G) (gn G) 146 2232 G1 H (cpS S (S 0 47).toNat v (S 0 60).toNat 0) → WL H (gn G) = [] → TW Z mi_X2_copy (d + 10) 147 [some (tR (some e)), some (tR (some (gn G))), some (tI 0), o3] [] H Q := by
  have V := hp.2.1
  have r55 := V.1.r55
  have lW : (WL G b).length = (S 0 55).toNat := hp.1.tail.2.2.2.2.1
  have loop : ∀ (r w : Nat) (H : GH), w + r = (S 0 55).toNat → Op0 Z (gn G) (gn G) (146 + w) (2232 + 10 * w) G1 H (cpS S (S 0 47).toNat v (S 0 60).toNat w) → WL H (gn G) = (WL G b).take w →
      TW Z mi_X2_copy (d + 10) 147 [some (tR (some e)), some (tR (some (gn G))), some (tI (w : Int)), o3] [] H Q := by
    intro r
    induction r with
    | zero =>
      intro w H hw o wl
      obtain ⟨mH, RH, EH, wlH, cAH⟩ := hp.at o
      have RP := o.2.2
      obtain ⟨w1, w2, w3⟩ := RH.tail.2.2.2
      have k18 := RH.1.2.2.2.2.2.1.2.2.2.2.2.2.1
      have k19 := RH.1.2.2.2.2.2.1.2.2.2.2.2.2.2.1
      have k19' := RP.1.2.2.2.2.2.1.2.2.2.2.2.2.2.1
      have ew : w = (S 0 55).toNat := by omega
      subst ew
      rw [List.take_of_length_le (by omega)] at wl
      refine r_X2_copy_147 ⟨RH.k, fun v1 hv1 => ⟨b + 7, hv1.symm.trans k18, w1.1, jc_size (d := d + 8) w1 (r_X2_copy_157 ⟨by omega, by omega, fun _ => ⟨RH.k, fun v2 hv2 => ⟨gn G, rfl, RP.k, fun v6 hv6 => ?_⟩⟩, fun hn => by omega⟩)⟩⟩
      have e2 : v2 = some (b + 8) := hv2.symm.trans k19
      have e6 : v6 = some (gn G + 8) := hv6.symm.trans k19'
      subst e2 e6
      exact q H (o.mono (by omega) (by omega)) wl
    | succ r ih =>
      intro w H hw o wl
      obtain ⟨mH, RH, EH, wlH, cAH⟩ := hp.at o
      have RP := o.2.2
      obtain ⟨w1, w2, w3⟩ := RH.tail.2.2.2
      have k18 := RH.1.2.2.2.2.2.1.2.2.2.2.2.2.1
      have hwl : w < (WL H b).length := by omega
      have WO := w3 w hwl
      refine r_X2_copy_147 ⟨RH.k, fun v1 hv1 => ⟨b + 7, hv1.symm.trans k18, w1.1, jc_size (d := d + 8) w1 (r_X2_copy_157 ⟨by omega, by omega, fun hn => by omega, fun _ => ⟨RH.k, fun v8 hv8 => ⟨b + 7, hv8.symm.trans k18, w1.1, jc_get (d := d + 6) w1 hwl (r_X2_copy_171 ⟨fun b' hb' => by cases hb'; exact WO.1, gn G, rfl, RP.k, ?_⟩)⟩⟩⟩)⟩⟩
      refine xc_queue (d := d + 3) (c := S 56 w) (g := S 57 w) (l := S 58 w) (s := S 59 w) (by rw [cpS_55]; omega) RP WO (fun H2 o2 wl2 => r_X2_copy_177 ?_)
      rw [cpS_wait] at o2
      refine ih (w + 1) H2 (by omega) ((o.trans o2).mono (by omega) (by omega)) ?_
      rw [wl2, wl, wlH, List.take_add_one, List.getD_eq_getElem?_getD]
      have hl : w < (WL G b).length := by omega
      rw [List.getElem?_eq_getElem hl]
      rfl
  intro H o wl
  exact loop (S 0 55).toNat 0 H (by omega) o (by rw [wl]; rfl)
/-- the copy is the same -/
theorem cp_same (hp : CpH Z G G1 e b S) {w : Nat} (hw : ∀ m : Nat, m < (S 0 40).toNat → w.testBit m = isCutB S (m : Int)) (hw5 : w < 512) : SameE (up2 (up2 (up2 (up2 (up2 (accS (fun k => S 65 k) (cpS S (S 0 47).toNat (w : Int) (S 0 60).toNat (S 0 55).toNat)) 0 46 (S 0 46)) 0 44 (S 0 44)) 0 42 (S 0 42)) 0 43 (S 0 43)) 0 45 (S 0 45)) S := by
  have V := hp.2.1
  have r40 := V.1.r40
  have r47 := V.1.r47
  have r55 := V.1.r55
  have r60 := V.1.r60
  have hx : ∀ f x, f ≠ 0 → f ≠ 65 → up2 (up2 (up2 (up2 (up2 (accS (fun k => S 65 k) (cpS S (S 0 47).toNat (w : Int) (S 0 60).toNat (S 0 55).toNat)) 0 46 (S 0 46)) 0 44 (S 0 44)) 0 42 (S 0 42)) 0 43 (S 0 43)) 0 45 (S 0 45) f x = S f x := fun f x h0 h1 => by
    rw [up2_ne (Or.inl h0), up2_ne (Or.inl h0), up2_ne (Or.inl h0), up2_ne (Or.inl h0), up2_ne (Or.inl h0)]
    exact (if_neg h1).trans (cpS_f h0 h1)
  have hz : ∀ k, k ≠ 45 → k ≠ 43 → k ≠ 42 → k ≠ 44 → k ≠ 46 → up2 (up2 (up2 (up2 (up2 (accS (fun k => S 65 k) (cpS S (S 0 47).toNat (w : Int) (S 0 60).toNat (S 0 55).toNat)) 0 46 (S 0 46)) 0 44 (S 0 44)) 0 42 (S 0 42)) 0 43 (S 0 43)) 0 45 (S 0 45) 0 k = cpS S (S 0 47).toNat (w : Int) (S 0 60).toNat (S 0 55).toNat 0 k := fun k h1 h2 h3 h4 h5 => by
    rw [up2_ne (Or.inr h1), up2_ne (Or.inr h2), up2_ne (Or.inr h3), up2_ne (Or.inr h4), up2_ne (Or.inr h5)]
    rfl
  have z40 := hz 40 (by decide) (by decide) (by decide) (by decide) (by decide)
  have z41 := hz 41 (by decide) (by decide) (by decide) (by decide) (by decide)
  have z47 := hz 47 (by decide) (by decide) (by decide) (by decide) (by decide)
  have z55 := hz 55 (by decide) (by decide) (by decide) (by decide) (by decide)
  have z60 := hz 60 (by decide) (by decide) (by decide) (by decide) (by decide)
  rw [cpS_s (by decide)] at z40
  rw [cpS_41] at z41
  rw [cpS_47] at z47
  rw [cpS_55] at z55
  rw [cpS_60] at z60
  refine ⟨fun k k1 k2 k3 => ?_, fun k hk => ?_, by rw [z55]; omega, by rw [z60]; omega, fun f c h1 h2 _ => (hx f c (by omega) (by omega)).symm, fun k _ => ?_, fun f c h1 h2 _ => (hx f c (by omega) (by omega)).symm, fun g _ => ⟨(hx 61 g (by decide) (by decide)).symm, (hx 63 g (by decide) (by decide)).symm, fun i _ => (hx 62 _ (by decide) (by decide)).symm, fun i _ => (hx 64 _ (by decide) (by decide)).symm⟩⟩
  · by_cases h45 : k = 45
    · subst h45; exact up2_at.symm
    · by_cases h43 : k = 43
      · subst h43; rw [up2_ne (Or.inr (by decide)), up2_at]
      · by_cases h42 : k = 42
        · subst h42; rw [up2_ne (Or.inr (by decide)), up2_ne (Or.inr (by decide)), up2_at]
        · by_cases h44 : k = 44
          · subst h44; rw [up2_ne (Or.inr (by decide)), up2_ne (Or.inr (by decide)), up2_ne (Or.inr (by decide)), up2_at]
          · by_cases h46 : k = 46
            · subst h46; rw [up2_ne (Or.inr (by decide)), up2_ne (Or.inr (by decide)), up2_ne (Or.inr (by decide)), up2_ne (Or.inr (by decide)), up2_at]
            · by_cases h47 : k = 47
              · subst h47; rw [z47]; omega
              · rw [hz k h45 h43 h42 h44 h46, cpS_s (by omega)]
  · rw [z40] at hk
    have e2 : isCutB (up2 (up2 (up2 (up2 (up2 (accS (fun k => S 65 k) (cpS S (S 0 47).toNat (w : Int) (S 0 60).toNat (S 0 55).toNat)) 0 46 (S 0 46)) 0 44 (S 0 44)) 0 42 (S 0 42)) 0 43 (S 0 43)) 0 45 (S 0 45)) (k : Int) = w.testBit k := by
      rw [cut_bit (by rw [z41]; omega) (by omega), z41, Int.toNat_natCast, Int.toNat_natCast]
    rw [e2, hw k (by omega)]
  · rw [up2_ne (Or.inl (by decide)), up2_ne (Or.inl (by decide)), up2_ne (Or.inl (by decide)), up2_ne (Or.inl (by decide)), up2_ne (Or.inl (by decide))]
    exact (if_pos rfl).symm
/-- the end of the copying -/
theorem cp_end (hp : CpH Z G G1 e b S) {H : GH} {w : Nat} {x : Int} {o3 : Option Value} (hw : ∀ m : Nat, m < (S 0 40).toNat → w.testBit m = isCutB S (m : Int)) (hw5 : w < 512) (o : Op0 Z (gn G) (gn G) 154 2312 G1 H (cpS S (S 0 47).toNat (w : Int) (S 0 60).toNat (S 0 55).toNat)) (wl : WL H (gn G) = WL G b)
    (q : ∀ F, Op0 Z (gn G) (gn G) 154 2312 G1 F S → WL F (gn G) = WL G b → Q (.inl (some (tR (some (gn G))))) F) :
    TW Z mi_X2_copy (d + 10) 195 [some (tR (some e)), some (tR (some (gn G))), some (tI x), o3] [tI 13, tI 0, tR (some (gn G + 8)), tI 0, tR (some (b + 8))] H Q := by
  obtain ⟨mH, RH, EH, wlH, cAH⟩ := hp.at o
  have V := hp.2.1
  have r40 := V.1.r40
  have r47 := V.1.r47
  have r55 := V.1.r55
  have r60 := V.1.r60
  have RP := o.2.2
  have kb8 := RH.1.2.2.2.2.2.2.2.2.2.2.2.2.2.2.2.1
  have lb8 := RH.1.2.2.2.2.2.2.2.2.2.2.2.2.2.2.2.2.1
  have kb8' := RP.1.2.2.2.2.2.2.2.2.2.2.2.2.2.2.2.1
  have lb8' := RP.1.2.2.2.2.2.2.2.2.2.2.2.2.2.2.2.2.1
  have l8' := (RP.1.part 8 (by decide) (by decide)).2
  refine r_X2_copy_195 (d := d + 9) kb8 kb8' lb8 lb8' ?_
  have mC : Md (fun y => y = gn G + 8) H (cpyG H (b + 8) 0 (gn G + 8) 0 13) := Md.rf.cpy l8' (fun _ => rfl)
  have aC : ∀ k, k < 13 → aI (cpyG H (b + 8) 0 (gn G + 8) 0 13) (gn G + 8) k = S 65 k := fun k hk => by
    have e1 : aI (cpyG H (b + 8) 0 (gn G + 8) 0 13) (gn G + 8) k = aI H (b + 8) (0 + (k - 0)) := if_pos ⟨rfl, by omega, by omega⟩
    rw [e1, show 0 + (k - 0) = k by omega]
    exact RH.2.1.2.2.2.2.2.2.2.2.2 k hk
  have RC := xr_accs (A := fun k => S 65 k) RP mC aC
  have cmC : capM (cpyG H (b + 8) 0 (gn G + 8) 0 13) (gn G + 2) = capM H (gn G + 2) := rfl
  have wlC := WL.md1 RP.tail.2.2.2 mC (fun y hy ho z => by
    rcases ho with ho | ho
    · omega
    · exact (RP.1.own (j := 7) (by decide) ho).2.1 8 (by decide) (by decide) z)
  have cgC : CgE (gn G) (gn G) H (cpyG H (b + 8) 0 (gn G + 8) 0 13) := mC.mono (fun y hy h => by rw [h]; exact (RP.1.part 8 (by decide) (by decide)).1)
  have nC : gn (cpyG H (b + 8) 0 (gn G + 8) 0 13) = gn H := rfl
  have sC : gs (cpyG H (b + 8) 0 (gn G + 8) 0 13) = gs H := rfl
  have fC : ∀ f y, fI (cpyG H (b + 8) 0 (gn G + 8) 0 13) f y = fI H f y := fun _ _ => rfl
  generalize cpyG H (b + 8) 0 (gn G + 8) 0 13 = C at *
  have een : e ≠ gn G := by have := hp.1.1.2.1; omega
  obtain ⟨p1, v1⟩ := op_int (f := 21) (k := 46) (v := S 0 46) RC (by decide)
  obtain ⟨p2, v2⟩ := op_int (f := 22) (k := 44) (v := S 0 44) p1.1.2.2 (by decide)
  obtain ⟨p3, v3⟩ := op_int (f := 23) (k := 42) (v := S 0 42) p2.1.2.2 (by decide)
  obtain ⟨p4, v4⟩ := op_int (f := 24) (k := 43) (v := S 0 43) p3.1.2.2 (by decide)
  obtain ⟨p5, v5⟩ := op_int (f := 25) (k := 45) (v := S 0 45) p4.1.2.2 (by decide)
  have kC : gK C e = 2 := (cgC.k RH.1.2.1).trans RH.k
  have kC' : gK C (gn G) = 2 := (cgC.k RP.1.2.1).trans RP.k
  have oC : Op0 Z (gn G) (gn G) 0 0 H C _ := ⟨cgC, Rm.same cmC (by omega) (by omega), RC⟩
  have oo := ((((((o.trans oC).trans p1.1).trans p2.1).trans p3.1).trans p4.1).trans p5.1)
  have rr : SameE (up2 (up2 (up2 (up2 (up2 (accS (fun k => S 65 k) (cpS S (S 0 47).toNat (w : Int) (S 0 60).toNat (S 0 55).toNat)) 0 46 (S 0 46)) 0 44 (S 0 44)) 0 42 (S 0 42)) 0 43 (S 0 43)) 0 45 (S 0 45)) S := by
    exact cp_same hp hw hw5
  refine r_X2_copy_198 ⟨kC, gn G, rfl, kC', gn G, rfl, kC', gn G, rfl, kC', gn G, rfl, kC', gn G, rfl, kC', ?_⟩
  rw [fC, fC, fC, fC, fC, RH.f46, RH.f44, RH.f42, RH.f43, RH.f45]
  have rm := oo.2.1
  refine q _ ⟨oo.1, by unfold Rm at rm ⊢; omega, oo.2.2.same rr⟩ (v5.trans (v4.trans (v3.trans (v2.trans (v1.trans (wlC.trans wl))))))
end COPY3
