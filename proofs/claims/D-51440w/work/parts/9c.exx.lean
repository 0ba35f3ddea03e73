/-! THE EXCHANGE, 32: copying the calls -/
section COPY2
variable {Z : ZT} {d : Nat} {G G1 : GH} {Q : TR → GH → Prop} {e b : Nat} {S S' T T' : St}
/-- what is done to what is new leaves the old alone -/
theorem cg_new {H : GH} {e' b' : Nat} (m0 : Md (fun _ => False) G G1) (cg : CgE e' b' G1 H) (ow : OW G) (he : gn G ≤ e') (hb : e' ≤ b') : Md (fun _ => False) G H :=
  m0.trans' cg (fun c hc hr => by
    have h := ow c hc
    have hp := m0.p hc
    unfold RegE at hr
    rw [hp] at hr
    omega)
def CpH (Z : ZT) (G G1 : GH) (e b : Nat) (S : St) : Prop := Rep Z G e b S S ∧ Ok S ∧ EnvE Z G ∧ Md (fun _ => False) G G1
theorem CpH.at {H : GH} {N Sl : Nat} {P : St} (h : CpH Z G G1 e b S) (o : Op0 Z (gn G) (gn G) N Sl G1 H P) : Md (fun _ => False) G H ∧ Rep Z H e b S S ∧ EnvE Z H ∧ WL H b = WL G b ∧ ∀ x, callA H b S x = callA G b S x := by
  obtain ⟨R, V, E, m0⟩ := h
  have m := cg_new m0 o.1 E.2.2.1 (Nat.le_refl _) (Nat.le_refl _)
  obtain ⟨r1, r2, r3⟩ := R.md m (fun _ _ _ _ z => z) (fun _ _ z => z)
  exact ⟨m, r1, E.md m (fun _ _ z => z), r2, r3⟩
theorem Op0.trans {N1 S1 N2 S2 e' b' : Nat} {A B C : GH} {T1 T2 : St} (h : Op0 Z e' b' N1 S1 A B T1) (k : Op0 Z e' b' N2 S2 B C T2) : Op0 Z e' b' (N1 + N2) (S1 + S2) A C T2 := ⟨h.1.trans k.1, h.2.1.trans k.2.1, k.2.2⟩
theorem Op0.mono {N1 S1 N2 S2 e' b' : Nat} {A B : GH} {T1 : St} (h : Op0 Z e' b' N1 S1 A B T1) (h1 : N1 ≤ N2) (h2 : S1 ≤ S2) : Op0 Z e' b' N2 S2 A B T1 := by
  obtain ⟨a, r, c⟩ := h
  refine ⟨a, ?_, c⟩
  unfold Rm at r ⊢
  omega
/-- a new call object -/
theorem jx_callNew {e' : Nat} {n fr to bg l : Int} (he : e' < gn G) (hz : Fz G) (q : ∀ G', Md (fun _ => False) G G' → gn G' = gn G + 1 → gs G' = gs G + 7 → gK G' (gn G) = 9 → gP G' (gn G) = e' → fI G' 105 (gn G) = n → fI G' 106 (gn G) = fr → fI G' 107 (gn G) = to → fI G' 108 (gn G) = bg → fI G' 109 (gn G) = l → fI G' 110 (gn G) = -1 → fI G' 111 (gn G) = 0 → Q (.inl none) G') : TC Z (d + 1) mi_X9_init [tR (some (gn G)), tI n, tI fr, tI to, tI bg, tI l] (newG G 9 0 e' 7) Q := by
  have m0 : Md (fun _ => False) G (newG G 9 0 e' 7) := Md.rf.new (by omega)
  have k0 : gK (newG G 9 0 e' 7) (gn G) = 9 := gK_new
  have p0 : gP (newG G 9 0 e' 7) (gn G) = e' := gP_new (N := 7)
  have n0 : gn (newG G 9 0 e' 7) = gn G + 1 := rfl
  have s0 : gs (newG G 9 0 e' 7) = gs G + 7 := rfl
  have z0 : fI (newG G 9 0 e' 7) 111 (gn G) = 0 := ((hz (gn G) (Nat.le_refl _)).2.1 111).1
  generalize newG G 9 0 e' 7 = G0 at *
  have hlt : gn G < gn G0 := by omega
  refine c_X9_init ⟨k0, q _ (md_new (md_new (md_new (md_new (md_new (md_new m0 hlt (Nat.le_refl _)) hlt (Nat.le_refl _)) hlt (Nat.le_refl _)) hlt (Nat.le_refl _)) hlt (Nat.le_refl _)) hlt (Nat.le_refl _)) n0 s0 k0 p0 ?_ ?_ ?_ ?_ ?_ ?_ ?_⟩
  · rw [hI_ne (Or.inl (by decide)), hI_ne (Or.inl (by decide)), hI_ne (Or.inl (by decide)), hI_ne (Or.inl (by decide)), hI_at]
  · rw [hI_ne (Or.inl (by decide)), hI_ne (Or.inl (by decide)), hI_ne (Or.inl (by decide)), hI_at]
  · rw [hI_ne (Or.inl (by decide)), hI_ne (Or.inl (by decide)), hI_at]
  · rw [hI_ne (Or.inl (by decide)), hI_at]
  · rw [hI_at]
  · rw [hI_ne (Or.inl (by decide)), hI_ne (Or.inl (by decide)), hI_ne (Or.inl (by decide)), hI_ne (Or.inl (by decide)), hI_ne (Or.inl (by decide)), hI_at]
  · rw [hI_ne (Or.inl (by decide)), hI_ne (Or.inl (by decide)), hI_ne (Or.inl (by decide)), hI_ne (Or.inl (by decide)), hI_ne (Or.inl (by decide)), hI_ne (Or.inl (by decide))]
    exact z0
/-- two more of its numbers -/
theorem call_two {H : GH} {a : Nat} {x y : Int} {n fr to bg l : Int} (ha : a < gn H) (h5 : fI H 105 a = n) (h6 : fI H 106 a = fr) (h7 : fI H 107 a = to) (h8 : fI H 108 a = bg) (h9 : fI H 109 a = l) : fI (setI (setI H 110 a x) 111 a y) 105 a = n ∧ fI (setI (setI H 110 a x) 111 a y) 106 a = fr ∧ fI (setI (setI H 110 a x) 111 a y) 107 a = to ∧ fI (setI (setI H 110 a x) 111 a y) 108 a = bg ∧ fI (setI (setI H 110 a x) 111 a y) 109 a = l ∧ fI (setI (setI H 110 a x) 111 a y) 110 a = x ∧ fI (setI (setI H 110 a x) 111 a y) 111 a = y := by
  refine ⟨?_, ?_, ?_, ?_, ?_, ?_, ?_⟩
  · rw [hI_ne (Or.inl (by decide)), hI_ne (Or.inl (by decide))]; exact h5
  · rw [hI_ne (Or.inl (by decide)), hI_ne (Or.inl (by decide))]; exact h6
  · rw [hI_ne (Or.inl (by decide)), hI_ne (Or.inl (by decide))]; exact h7
  · rw [hI_ne (Or.inl (by decide)), hI_ne (Or.inl (by decide))]; exact h8
  · rw [hI_ne (Or.inl (by decide)), hI_ne (Or.inl (by decide))]; exact h9
  · rw [hI_ne (Or.inl (by decide)), hI_at]
  · rw [hI_at]
/-- a call object is copied -/
theorem xc_copyCall {e' b' a c : Nat} {P : St} (R : Rep Z G e' b' P P) (hz : Fz G) (C : CallO G e a S c) (q : ∀ G', Op0 Z e' b' 1 7 G G' P → Md (fun _ => False) G G' → WL G' b' = WL G b' → (gK G' (gn G) = 9 ∧ gP G' (gn G) = e' ∧ gn G < gn G' ∧ fI G' 105 (gn G) = S 48 c ∧ fI G' 106 (gn G) = S 49 c ∧ fI G' 107 (gn G) = S 50 c ∧ fI G' 108 (gn G) = S 52 c ∧ fI G' 109 (gn G) = S 53 c ∧ fI G' 110 (gn G) = S 51 c ∧ fI G' 111 (gn G) = S 54 c) → Q (.inl (some (tR (some (gn G))))) G') : TC Z (d + 2) mi_X9_copy [tR (some a)] G Q := by
  obtain ⟨x1, x2, x3, x4, x5, x6, x7, x8, x9, x10⟩ := C
  have ha : a < gn G := x3
  refine c_X9_copy e' ⟨by rw [gK_old (by omega)]; exact x1, ?_⟩
  rw [x4, x5, x6, x7, x8]
  refine jx_callNew R.1.2.1 hz (fun G2 m1 n1 s1 k1 p1 i5 i6 i7 i8 i9 _ _ => r_X9_copy_27 ?_)
  have sa := m1.sm ha id
  have f10 : fI G2 110 a = S 51 c := (sa.2.2.2.1 110).1.trans x9
  have f11 : fI G2 111 a = S 54 c := (sa.2.2.2.1 111).1.trans x10
  rw [f10, f11]
  have hl2 : gn G < gn G2 := by omega
  have m2 : Md (fun _ => False) G (setI (setI G2 110 (gn G) (S 51 c)) 111 (gn G) (S 54 c)) := md_new (md_new m1 hl2 (Nat.le_refl _)) hl2 (Nat.le_refl _)
  have ct := call_two (x := S 51 c) (y := S 54 c) hl2 i5 i6 i7 i8 i9
  have ka2 : gK (setI (setI G2 110 (gn G) (S 51 c)) 111 (gn G) (S 54 c)) (gn G) = 9 := k1
  have pa2 : gP (setI (setI G2 110 (gn G) (S 51 c)) 111 (gn G) (S 54 c)) (gn G) = e' := p1
  have n2 : gn (setI (setI G2 110 (gn G) (S 51 c)) 111 (gn G) (S 54 c)) = gn G2 := rfl
  have s2 : gs (setI (setI G2 110 (gn G) (S 51 c)) 111 (gn G) (S 54 c)) = gs G2 := rfl
  refine ⟨sa.1.trans x1, gn G, rfl, k1, gn G, rfl, k1, ?_⟩
  generalize setI (setI G2 110 (gn G) (S 51 c)) 111 (gn G) (S 54 c) = G3 at *
  obtain ⟨R2, wl2, -⟩ := R.md m2 (fun _ _ _ _ z => z) (fun _ _ z => z)
  have cm : capM G3 (b' + 2) = capM G (b' + 2) := capM_mv (R.2.2.2.1.choose_spec.choose_spec.1) m2 id
  exact q G3 ⟨m2.mono (fun _ _ z => z.elim), Rm.same cm (by omega) (by omega), R2⟩ m2 wl2 ⟨ka2, pa2, by omega, ct.1, ct.2.1, ct.2.2.1, ct.2.2.2.1, ct.2.2.2.2.1, ct.2.2.2.2.2.1, ct.2.2.2.2.2.2⟩
/-- a copied call is kept and laid -/
theorem cp_one {a c : Nat} {e' b' : Nat} (V : Ok S) (R : Rep Z G e' b' (cpS S c 0 0 0) (cpS S c 0 0 0)) (hz : Fz G) (hc : c < (S 0 47).toNat)
    (ca : gK G a = 9 ∧ gP G a = e' ∧ a < gn G ∧ fI G 105 a = S 48 c ∧ fI G 106 a = S 49 c ∧ fI G 107 a = S 50 c ∧ fI G 108 a = S 52 c ∧ fI G 109 a = S 53 c ∧ fI G 110 a = S 51 c ∧ fI G 111 a = S 54 c) {k : Int} {t : Nat}
    (q : ∀ G', Op0 Z e' b' 4 18 G G' (cpS S (c + 1) 0 0 0) → WL G' b' = WL G b' → TW Z mi_X2_copy (d + 7) 66 [some (tR (some t)), some (tR (some e')), some (tI k), some (tR (some a))] [] G' Q) :
    TC Z (d + 6) mi_X2_keep [tR (some e'), tR (some a)] G (KQ Z mi_X2_copy (d + 7) 54 57 [some (tR (some t)), some (tR (some e')), some (tI k), some (tR (some a))] [] Q) := by
  have r47 := V.1.r47
  have rc := V.1.row hc
  have s36 := sub36 V.1.1
  have d0 := V.1.2.2.2.2.2.1 c hc
  have d1 := V.1.2.2.2.2.2.2.1
  have d2 := V.1.2.2.2.2.2.2.2.1
  obtain ⟨fr, hfr⟩ : ∃ fr : Nat, S 49 c = (fr : Int) := ⟨(S 49 c).toNat, by have := rc.2.1; omega⟩
  obtain ⟨to, hto⟩ : ∃ to : Nat, S 50 c = (to : Int) := ⟨(S 50 c).toNat, by have := rc.2.2.1; omega⟩
  obtain ⟨m, hm⟩ : ∃ m : Nat, S 51 c = (m : Int) := ⟨(S 51 c).toNat, by have := rc.2.2.2.1; have := V.2.1 c hc; omega⟩
  have eN : (cpS S c 0 0 0 0 47).toNat = c := by rw [cpS_47]; exact Int.toNat_natCast c
  have cf : ∀ {f x : Nat}, f ≠ 0 → f ≠ 65 → cpS S c 0 0 0 f x = S f x := fun h0 h1 => cpS_f h0 h1
  have num : ∀ x : Nat, x < c → S 48 x ≠ S 48 c := fun x hx => by have := V.1.2.2.2.1 x c hx hc; omega
  have cw : ∀ s : Int, s = S 49 c ∨ s = S 50 c → callWith (cpS S c 0 0 0) s = -1 := fun s hs => callWith_of (fun x hx => by
    rw [eN] at hx
    rw [cf (by decide) (by decide), cf (by decide) (by decide)]
    have a1 := d1 x c (by omega) hc
    have a2 := d1 c x hc (by omega)
    have a3 := d2 x c (by omega) hc (by omega)
    rcases hs with hs | hs
    · rw [hs]; exact ⟨a3.1, fun z => a2 z.symm⟩
    · rw [hs]; exact ⟨a1, a3.2⟩)
  obtain ⟨x1, x2, x3, x4, x5, x6, x7, x8, x9, x10⟩ := ca
  obtain ⟨RK, mK, cK⟩ := xr_keep (a := a) (fr := fr) (to := to) (n := S 48 c) (m := S 51 c) (bg := S 52 c) (l := S 53 c) (mv := S 54 c) R (by rw [cpS_47]; omega) ⟨rc.1.1, rc.1.2⟩ (fun x hx => by rw [eN] at hx; rw [cf (by decide) (by decide)]; exact ⟨(V.1.row (c := x) (by omega)).1.1, num x hx⟩) ⟨x1, x2, x3, x4, x5.trans hfr, x6.trans hto, x7, x8, x9, x10⟩ (cw _ (Or.inl hfr.symm)) (cw _ (Or.inr hto.symm))
  rw [eN] at RK cK
  have eR : rowS (cpS S c 0 0 0) (S 48 c) (fr : Int) (to : Int) (S 51 c) (S 52 c) (S 53 c) (S 54 c) = cpS S (c + 1) 0 0 0 := by rw [← hfr, ← hto]; exact cpS_row
  rw [eR] at RK cK
  have k12 := R.1.2.2.2.2.2.1.1
  have k13 := R.1.2.2.2.2.2.1.2.1
  have kb1 := R.1.2.2.2.2.2.2.2.1
  have lb1 := R.1.2.2.2.2.2.2.2.2.1
  have kb10 := R.1.2.2.2.2.2.2.2.2.2.2.2.2.2.2.2.2.2.2
  have lb10 : gL G (b' + 10) = (S 0 38 * S 0 39).toNat := by
    have := R.2.1.2.2.2.2.2.2.2.2.1
    rw [cpS_s (by decide), cpS_s (by decide)] at this
    exact this
  refine c_X2_keep ⟨R.k, fun v1 hv1 => ⟨a, rfl, x1, b' + 1, hv1.symm.trans k12, kb1, by rw [x4, lb1]; have := rc.1; omega, fun b'' hb' => by cases hb'; exact x1, fun v7 hv7 => ⟨a, rfl, x1, b' + 10, hv7.symm.trans k13, kb10, by rw [x5, lb10]; have := rc.2.1; omega, fun v13 hv13 => ⟨a, rfl, x1, b' + 10, hv13.symm.trans k13, kb10, by rw [x6, lb10]; have := rc.2.2.1; omega, ?_⟩⟩⟩⟩
  rw [x4, x5, x6, hfr, hto, Int.toNat_natCast, Int.toNat_natCast]
  have zK := mK.fz hz
  have aK : fI (setQ (setQ (setQ G (b' + 1) (S 48 c).toNat (some a)) (b' + 10) fr (some a)) (b' + 10) to (some a)) 110 a = S 51 c := x9
  have kK : gK (setQ (setQ (setQ G (b' + 1) (S 48 c).toNat (some a)) (b' + 10) fr (some a)) (b' + 10) to (some a)) a = 9 := x1
  have cmK : capM (setQ (setQ (setQ G (b' + 1) (S 48 c).toNat (some a)) (b' + 10) fr (some a)) (b' + 10) to (some a)) (b' + 2) = capM G (b' + 2) := rfl
  have nK : gn (setQ (setQ (setQ G (b' + 1) (S 48 c).toNat (some a)) (b' + 10) fr (some a)) (b' + 10) to (some a)) = gn G := rfl
  have sK : gs (setQ (setQ (setQ G (b' + 1) (S 48 c).toNat (some a)) (b' + 10) fr (some a)) (b' + 10) to (some a)) = gs G := rfl
  have wlK := WL.md1 R.2.2.2.2.2.2.2 mK (fun x hx ho z => by
    rcases ho with ho | ho
    · have := R.1.2.2.1; omega
    · obtain ⟨o1, o2, -⟩ := R.1.own (j := 7) (by decide) ho
      rcases z with z | z
      · exact o2 1 (by decide) (by decide) z
      · exact o2 10 (by decide) (by decide) z)
  have cgK : CgE e' b' G (setQ (setQ (setQ G (b' + 1) (S 48 c).toNat (some a)) (b' + 10) fr (some a)) (b' + 10) to (some a)) := mK.mono (fun x hx h => by
    rcases h with h | h
    · rw [h]; exact (R.1.part 1 (by decide) (by decide)).1
    · rw [h]; exact (R.1.part 10 (by decide) (by decide)).1)
  generalize setQ (setQ (setQ G (b' + 1) (S 48 c).toNat (some a)) (b' + 10) fr (some a)) (b' + 10) to (some a) = GK at *
  refine r_X2_copy_57 ⟨a, rfl, kK, e', rfl, RK.k, ?_⟩
  rw [aK, hm]
  have eN1 : (cpS S (c + 1) 0 0 0 0 47).toNat = c + 1 := by rw [cpS_47]; exact Int.toNat_natCast _
  have W1 : RwS (cpS S (c + 1) 0 0 0) := V.1.rw.cp (by omega)
  have e39 : cpS S (c + 1) 0 0 0 0 39 = S 0 39 := cpS_s (by decide)
  have ee : endS (cpS S (c + 1) 0 0 0) = endS S := endS_eq e39 (funext fun x => cpS_f (by decide) (by decide)) (funext fun x => cpS_f (by decide) (by decide))
  have SR : SameR (cpS S (c + 1) 0 0 0) (up2 (cpS S (c + 1) 0 0 0) 51 c (-1)) := ⟨fun k => up2_ne (Or.inl (by decide)), fun f x hf => up2_ne (Or.inl hf)⟩
  have m8 : m ≤ 8 := by have := rc.2.2.2.1; omega
  rw [← cK]
  refine xc_lay RK W1 SR (by rw [eN1]; omega) m8 up2_at (fun t => carriedAt_of (fun y hy h1 h2 => ?_)) zK (fun G' m' rm' R' => ?_)
  · rw [up2_ne (Or.inl (by decide)), eN1] at hy
    rw [up_end, ee] at h2
    by_cases hyc : y = c
    · rw [hyc, up2_at] at h1; omega
    · rw [up2_ne (Or.inr hyc), cpS_f (by decide) (by decide)] at h1
      exact hyc (V.1.2.1 y c (by omega) hc (h1.trans hm.symm) (by rw [h1]; omega) t h2)
  · have hA : ∀ x, x = callA GK b' (cpS S (c + 1) 0 0 0) c → gP GK x = e' ∧ gK GK x = 9 := fun x hx => by
      have C := RK.co (c := c) (by rw [eN1]; omega)
      rw [hx]; exact ⟨C.2.1, C.1⟩
    obtain ⟨-, -, -, -, cg, -, -⟩ := RK.pl m' hA
    have wl' := WL.md1 RK.2.2.2.2.2.2.2 m' ((PL.no RK.1 hA).2.2.1 7 (by decide) (by decide))
    have eU : up2 (cpS S (c + 1) 0 0 0) 51 c (m : Int) = cpS S (c + 1) 0 0 0 := by
      have := up_self (S := cpS S (c + 1) 0 0 0) (x := c)
      rw [cpS_f (by decide) (by decide), hm] at this
      exact this
    have eT : up2 (up2 (cpS S (c + 1) 0 0 0) 51 c (-1)) 51 c (m : Int) = cpS S (c + 1) 0 0 0 := by
      funext f x
      by_cases h : f = 51 ∧ x = c
      · obtain ⟨rfl, rfl⟩ := h
        rw [up2_at, cpS_f (by decide) (by decide)]; exact hm.symm
      · have h' : f ≠ 51 ∨ x ≠ c := if hf : f = 51 then Or.inr (fun hx => h ⟨hf, hx⟩) else Or.inl hf
        rw [up2_ne h', up2_ne h']
    rw [eU, eT] at R'
    have hq := q G' ⟨cgK.trans cg, ?_, R'⟩ (wl'.trans wlK)
    · rw [← cK] at hq
      exact hq
    · have := (Rm.same (n := 0) (s := 0) cmK (by omega) (by omega)).trans rm'
      exact this
end COPY2
