/-! THE EXCHANGE, 13: begin -/
section BEGIN2
variable {Z : ZT} {d : Nat} {G : GH} {Q : TR → GH → Prop} {e b : Nat} {S S' T T' : St}
theorem PathR.cA {G0 G1 : GH} {i j rule low : Int} {ch : Bool} {r : Option Nat} (h : PathR Z G0 b S i j rule ch low G r) (c : ∀ x, callA G0 b S x = callA G1 b S x) : PathR Z G1 b S i j rule ch low G r := by
  have : callA G0 b S = callA G1 b S := funext c
  unfold PathR BestO at h ⊢
  rw [this] at h
  exact h
theorem stage_nat {s : Nat} (V : Inv S) (h : (s : Int) < S 0 38 * S 0 39) : ∃ i : Nat, (s : Int).tdiv (S 0 39) = (i : Int) ∧ (i : Int) < S 0 38 ∧ i ≤ 5 := by
  have r := stage_rng V.1 (s := (s : Int)) ⟨by omega, h⟩
  have := V.r38
  exact ⟨((s : Int).tdiv (S 0 39)).toNat, by omega, by omega, by omega⟩
theorem PT.no (sh : ShE G e b) {A : Nat → Prop} (hA : ∀ c, A c → gP G c = e ∧ gK G c = 9) : ¬ PT G b A e ∧ (∀ j, 1 ≤ j → j ≤ 10 → j ≠ 2 → j ≠ 8 → j ≠ 9 → ¬ PT G b A (b + j)) ∧ (∀ j, 4 ≤ j → j ≤ 7 → ∀ c, c < gn G → Ow G (b + j) c → ¬ PT G b A c) ∧ (∀ c, gP G c = e → gK G c = 9 → ¬ A c → ¬ PT G b A c) := by
  obtain ⟨n1, n2, n3, n4⟩ := PL.no sh hA
  have le := sh.2.2.1
  refine ⟨fun h => h.elim n1 (fun z => by omega), fun j j1 j2 j3 j4 j5 h => h.elim (n2 j j1 j2 j3 j5) (fun z => by omega), fun j j1 j2 c hc ho h => h.elim (n3 j j1 j2 c hc ho) (fun z => ?_), fun c c1 c2 c3 h => h.elim (n4 c c1 c2 c3) (fun z => sh.k9 (j := 8) (by decide) (z ▸ c2))⟩
  rcases ho with ho | ho
  · omega
  · exact (sh.own (j := j) (by omega) ho).2.1 8 (by decide) (by decide) z
/-- what an operation leaves -/
def Op0 (Z : ZT) (e b N Sl : Nat) (G G' : GH) (S' : St) : Prop := CgE e b G G' ∧ Rm N Sl G G' (b + 2) ∧ Rep Z G' e b S' S'
def OpR (Z : ZT) (e b N Sl : Nat) (G G' : GH) (S' : St) : Prop := Op0 Z e b N Sl G G' S' ∧ ∀ x ∈ WL G' b, x ∈ WL G b
theorem OpR.trans {N1 S1 N2 S2 : Nat} {A B C : GH} {T1 T2 : St} (h : OpR Z e b N1 S1 A B T1) (k : OpR Z e b N2 S2 B C T2) : OpR Z e b (N1 + N2) (S1 + S2) A C T2 :=
  ⟨⟨h.1.1.trans k.1.1, h.1.2.1.trans k.1.2.1, k.1.2.2⟩, fun x hx => h.2 x (k.2 x hx)⟩
theorem OpR.mono {N1 S1 N2 S2 : Nat} {A B : GH} {T1 : St} (h : OpR Z e b N1 S1 A B T1) (h1 : N1 ≤ N2) (h2 : S1 ≤ S2) : OpR Z e b N2 S2 A B T1 := by
  obtain ⟨⟨a, r, c⟩, w⟩ := h
  refine ⟨⟨a, ?_, c⟩, w⟩
  unfold Rm at r ⊢
  omega
theorem OpR.rf (R : Rep Z G e b S S) : OpR Z e b 0 0 G G S := ⟨⟨Md.rf, Rm.same rfl (by omega) (by omega), R⟩, fun _ h => h⟩
/-- what an operation finds -/
def EnvE (Z : ZT) (G : GH) : Prop := EnvA Z G ∧ EnvI Z G ∧ OW G ∧ Fz G
theorem EnvE.md {P : Nat → Prop} {G' : GH} (h : EnvE Z G) (m : Md P G G') (fp : FP G P) : EnvE Z G' := ⟨h.1.md m, h.2.1.md m fp, m.ow h.2.2.1, m.fz h.2.2.2⟩
theorem EnvE.op {N Sl : Nat} {G' : GH} (h : EnvE Z G) (R : Rep Z G e b S T) (o : OpR Z e b N Sl G G' S') : EnvE Z G' := h.md o.1.1 R.1.fp
/-- a question that may make things -/
theorem OpR.ask {N Sl : Nat} {G' : GH} (R : Rep Z G e b S S) (m : Md (fun c => c = b + 9) G G') (h1 : gn G' ≤ gn G + N) (h2 : gs G' ≤ gs G + Sl) : OpR Z e b N Sl G G' S :=
  ⟨⟨m.mono (fun x hx h => R.1.reg hx (Or.inr (Or.inl ⟨9, by decide, by decide, h⟩))), Rm.same (capM_mv (R.2.2.2.1.choose_spec.choose_spec.1) m (by omega)) h1 h2, (R.m9 m).1⟩, fun x hx => by rw [(R.m9 m).2.1] at hx; exact hx⟩
theorem xc_begin {fr to : Nat} {last : Int} (V : Inv S) (R : Rep Z G e b S S) (hEE : EnvE Z G) (hfr : (fr : Int) < S 0 38 * S 0 39) (hto : (to : Int) < S 0 38 * S 0 39) (ifr : idleB S (fr : Int) = true) (ito : idleB S (to : Int) = true) (hb : S 0 46 < 200) (hbl : blockedB S ((fr : Int).tdiv (S 0 39)) ((to : Int).tdiv (S 0 39)) = false)
    (q : ∀ G', OpR Z e b 531 2960 G G' (begins S (fr : Int) (to : Int) last) → WL G' b = WL G b → Q (.inl (some (tI (S 0 46)))) G') :
    TC Z (d + 11) mi_X2_begin [tR (some e), tI (fr : Int), tI (to : Int), tI last] G Q := by
  obtain ⟨hE, hI, ow, hz⟩ := hEE
  have s36 := sub36 V.1
  have r46 := V.r46
  have r47 := V.r47
  have r40 := V.r40
  obtain ⟨si, hsi, hsi38, hsi5⟩ := stage_nat V hfr
  obtain ⟨sj, hsj, hsj38, hsj5⟩ := stage_nat V hto
  have en : e < gn G := R.1.2.1
  have ae : gP G e < gn G := R.1.2.2.2.2.1.1
  refine c_X2_begin e ?_
  have m0 : Md (fun _ => False) G (newG G 9 0 e 7) := Md.rf.new (by omega)
  have k0 : gK (newG G 9 0 e 7) (gn G) = 9 := gK_new
  have p0 : gP (newG G 9 0 e 7) (gn G) = e := gP_new (N := 7)
  have n0 : gn (newG G 9 0 e 7) = gn G + 1 := rfl
  have s0 : gs (newG G 9 0 e 7) = gs G + 7 := rfl
  have z0 : ∀ f, fI (newG G 9 0 e 7) f (gn G) = 0 := fun f => ((hz (gn G) (Nat.le_refl _)).2.1 f).1
  have ke0 : gK (newG G 9 0 e 7) e = 2 := (m0.k en).trans R.k
  rw [R.f46, R.f44]
  refine ⟨ke0, ?_⟩
  generalize newG G 9 0 e 7 = G0 at *
  refine c_X9_init ⟨k0, r_X2_begin_18 ?_⟩
  have hlt : gn G < gn G0 := by omega
  have m1 : Md (fun _ => False) G (setI (setI (setI (setI (setI (setI G0 110 (gn G) (-1)) 105 (gn G) (S 0 46)) 106 (gn G) (fr : Int)) 107 (gn G) (to : Int)) 108 (gn G) (S 0 44)) 109 (gn G) last) :=
    md_new (md_new (md_new (md_new (md_new (md_new m0 hlt (Nat.le_refl _)) hlt (Nat.le_refl _)) hlt (Nat.le_refl _)) hlt (Nat.le_refl _)) hlt (Nat.le_refl _)) hlt (Nat.le_refl _)
  have n1 : gn (setI (setI (setI (setI (setI (setI G0 110 (gn G) (-1)) 105 (gn G) (S 0 46)) 106 (gn G) (fr : Int)) 107 (gn G) (to : Int)) 108 (gn G) (S 0 44)) 109 (gn G) last) = gn G + 1 := n0
  have s1 : gs (setI (setI (setI (setI (setI (setI G0 110 (gn G) (-1)) 105 (gn G) (S 0 46)) 106 (gn G) (fr : Int)) 107 (gn G) (to : Int)) 108 (gn G) (S 0 44)) 109 (gn G) last) = gs G + 7 := s0
  have k1 : gK (setI (setI (setI (setI (setI (setI G0 110 (gn G) (-1)) 105 (gn G) (S 0 46)) 106 (gn G) (fr : Int)) 107 (gn G) (to : Int)) 108 (gn G) (S 0 44)) 109 (gn G) last) (gn G) = 9 := k0
  have p1 : gP (setI (setI (setI (setI (setI (setI G0 110 (gn G) (-1)) 105 (gn G) (S 0 46)) 106 (gn G) (fr : Int)) 107 (gn G) (to : Int)) 108 (gn G) (S 0 44)) 109 (gn G) last) (gn G) = e := p0
  have i109 : fI (setI (setI (setI (setI (setI (setI G0 110 (gn G) (-1)) 105 (gn G) (S 0 46)) 106 (gn G) (fr : Int)) 107 (gn G) (to : Int)) 108 (gn G) (S 0 44)) 109 (gn G) last) 109 (gn G) = last := hI_at
  have i108 : fI (setI (setI (setI (setI (setI (setI G0 110 (gn G) (-1)) 105 (gn G) (S 0 46)) 106 (gn G) (fr : Int)) 107 (gn G) (to : Int)) 108 (gn G) (S 0 44)) 109 (gn G) last) 108 (gn G) = S 0 44 := (hI_ne (Or.inl (by decide))).trans hI_at
  have i107 : fI (setI (setI (setI (setI (setI (setI G0 110 (gn G) (-1)) 105 (gn G) (S 0 46)) 106 (gn G) (fr : Int)) 107 (gn G) (to : Int)) 108 (gn G) (S 0 44)) 109 (gn G) last) 107 (gn G) = (to : Int) := (hI_ne (Or.inl (by decide))).trans ((hI_ne (Or.inl (by decide))).trans hI_at)
  have i106 : fI (setI (setI (setI (setI (setI (setI G0 110 (gn G) (-1)) 105 (gn G) (S 0 46)) 106 (gn G) (fr : Int)) 107 (gn G) (to : Int)) 108 (gn G) (S 0 44)) 109 (gn G) last) 106 (gn G) = (fr : Int) := (hI_ne (Or.inl (by decide))).trans ((hI_ne (Or.inl (by decide))).trans ((hI_ne (Or.inl (by decide))).trans hI_at))
  have i105 : fI (setI (setI (setI (setI (setI (setI G0 110 (gn G) (-1)) 105 (gn G) (S 0 46)) 106 (gn G) (fr : Int)) 107 (gn G) (to : Int)) 108 (gn G) (S 0 44)) 109 (gn G) last) 105 (gn G) = S 0 46 := (hI_ne (Or.inl (by decide))).trans ((hI_ne (Or.inl (by decide))).trans ((hI_ne (Or.inl (by decide))).trans ((hI_ne (Or.inl (by decide))).trans hI_at)))
  have i111 : fI (setI (setI (setI (setI (setI (setI G0 110 (gn G) (-1)) 105 (gn G) (S 0 46)) 106 (gn G) (fr : Int)) 107 (gn G) (to : Int)) 108 (gn G) (S 0 44)) 109 (gn G) last) 111 (gn G) = 0 := (hI_ne (Or.inl (by decide))).trans ((hI_ne (Or.inl (by decide))).trans ((hI_ne (Or.inl (by decide))).trans ((hI_ne (Or.inl (by decide))).trans ((hI_ne (Or.inl (by decide))).trans ((hI_ne (Or.inl (by decide))).trans (z0 111))))))
  generalize setI (setI (setI (setI (setI (setI G0 110 (gn G) (-1)) 105 (gn G) (S 0 46)) 106 (gn G) (fr : Int)) 107 (gn G) (to : Int)) 108 (gn G) (S 0 44)) 109 (gn G) last = G1 at *
  obtain ⟨R1, wl1, cA1⟩ := R.md m1 (fun _ _ _ _ h => h) (fun _ _ h => h)
  have c1 : capM G1 (b + 2) = capM G (b + 2) := capM_mv (R.2.2.2.1.choose_spec.choose_spec.1) m1 id
  refine ⟨R1.k, xc_stage (d := d + 9) V R1 (by omega) (r_X2_begin_29 ⟨R1.k, xc_stage (d := d + 9) V R1 (by omega) (r_X2_begin_34 ⟨e, rfl, R1.k, ?_⟩)⟩)⟩
  rw [hsi, hsj]
  refine xc_path V R1 (hE.md m1) (hI.md m1 (fun _ _ h => h)) (m1.ow ow) (m1.fz hz) hsi38 hsj38 (fun G2 r m2 n2 s2 _ P => r_X2_begin_37 ⟨e, rfl, ?_, ?_⟩)
  · rw [m2.k R1.1.2.1]; exact R1.k
  obtain ⟨R2, wl2, cA2⟩ := R1.m9 m2
  have c2 : capM G2 (b + 2) = capM G1 (b + 2) := capM_mv (R1.2.2.2.1.choose_spec.choose_spec.1) m2 (by omega)
  have z2 : Fz G2 := m2.fz (m1.fz hz)
  have aG1 : gn G < gn G1 := by omega
  have sa2 := m2.sm aG1 (show ¬ gn G = b + 9 by have := R.1.2.2.2.1; omega)
  rw [hsi, hsj] at hbl
  obtain ⟨pa, hpa⟩ : ∃ pa, r = some pa := by
    cases r with
    | none => have := (path_none V P).mp rfl; rw [hbl] at this; cases this
    | some pa => exact ⟨pa, rfl⟩
  subst hpa
  have P2 : PathR Z G2 b S (si : Int) (sj : Int) (S 0 43) (decide (S 0 42 = 1)) (S 0 40) G2 (some pa) := P.cA (fun x => (cA2 x).symm)
  have ro := route_ok V (i := (si : Int)) (j := (sj : Int)) (rule := S 0 43) (low := S 0 40) (chains := decide (S 0 42 = 1)) (counts := true)
  have bg : begins S (fr : Int) (to : Int) last = addRow (route S (si : Int) (sj : Int) (S 0 43) (decide (S 0 42 = 1)) (S 0 40) true).2 (fr : Int) (to : Int) last (route S (si : Int) (sj : Int) (S 0 43) (decide (S 0 42 = 1)) (S 0 40) true).1 := by
    unfold begins
    rw [hsi, hsj]
  refine xc_take (d := d + 2) (a := gn G) V R2 hsi38 hsj38 P2 z2 (fun G3 m hm hm8 mt rm R3 z3 Q' kk => ?_)
  have hA2 := R2.rowA
  -- the new call is untouched
  have pt2 := PT.no R2.1 hA2
  have na : ¬ PT G2 b (RowA G2 b S) (gn G) := by
    refine pt2.2.2.2 (gn G) ?_ ?_ (fun hr => ?_)
    · rw [sa2.2.2.1]; exact p1
    · rw [sa2.1]; exact k1
    · obtain ⟨c, hc, hx⟩ := hr
      rw [cA2, cA1] at hx
      have := (R.co hc).2.2.1
      omega
  have wl3 : WL G3 b = WL G2 b := WL.md1 R2.2.2.2.2.2.2.2 mt (pt2.2.2.1 7 (by decide) (by decide))
  have aG2 : gn G < gn G2 := by have := m2.le; omega
  have sa3 := mt.sm aG2 na
  have sa := sa2.trans sa3
  have m8' := hm8
  have hmid : (0 : Int) ≤ (m : Int) := by omega
  have rok := ro.2.2.2.resolve_left (fun h => by rw [← hm] at h; omega)
  rw [← hm] at bg rok
  have VR := ro.1
  have eqR := ro.2.1
  generalize hRS : (route S (si : Int) (sj : Int) (S 0 43) (decide (S 0 42 = 1)) (S 0 40) true).2 = RS at *
  have e47 : RS 0 47 = S 0 47 := eqR 0 47 (by decide) (by decide) (by decide)
  have e39 : RS 0 39 = S 0 39 := eqR 0 39 (by decide) (by decide) (by decide)
  have e46 : RS 0 46 = S 0 46 := eqR 0 46 (by decide) (by decide) (by decide)
  have e44 : RS 0 44 = S 0 44 := eqR 0 44 (by decide) (by decide) (by decide)
  have ecw : ∀ s, callWith RS s = callWith S s := fun s => callWith_congr e47 (fun x _ => ⟨eqR 49 x (by decide) (by decide) (by decide), eqR 50 x (by decide) (by decide) (by decide)⟩)
  obtain ⟨n, f, M, hn, hf⟩ := id R3.2.2.2.1
  have n44 : n ≤ 44 := by
    have s := sum_le_n (p := fun x => decide (RS 51 x ≠ -1)) (RS 0 47).toNat
    rw [e47] at s hn
    omega
  have fI3 := fun f => (sa.2.2.2.1 f).1
  refine jx_lay (d := d + 3) (S := RS) (x := (fr : Int)) (y := (to : Int)) (nf := si) (nt := sj) R3.1 VR.rw R3.f39 (sa.1.trans k1) (sa.2.2.1.trans p1) (by have := mt.le; omega) z3 hm8 ⟨(fI3 106).trans i106, by omega, by rw [e39]; exact hsi, hsi5⟩ ⟨(fI3 107).trans i107, by omega, by rw [e39]; exact hsj, hsj5⟩ M n44 (free_f hm8 hsi5 rok.2.2.2.1 hf) (free_f hm8 hsj5 rok.2.2.2.2 hf) (fun i t hi => carr_bin M VR.rw SameR.rf hf hm8 hi) (fun G4 m4 rm4 M4 f110 fI4 => kk G4 ?_ ?_)
  · have hA3 : ∀ c, c = gn G → gP G3 c = e ∧ gK G3 c = 9 := fun c hc => by rw [hc]; exact ⟨sa.2.2.1.trans p1, sa.1.trans k1⟩
    exact (R3.pl m4 hA3).2.2.2.2.1
  · have hA3 : ∀ c, c = gn G → gP G3 c = e ∧ gK G3 c = 9 := fun c hc => by rw [hc]; exact ⟨sa.2.2.1.trans p1, sa.1.trans k1⟩
    have aG3 : gn G < gn G3 := by have := mt.le; omega
    obtain ⟨sh4, sc4, tl4, cA4, cg4, fp4, co4⟩ := R3.pl m4 hA3
    have cA3 : ∀ x, callA G3 b RS x = callA G b S x := fun x => (callA_pt R2.1 hA2 mt (funext fun y => eqR 48 y (by decide) (by decide) (by decide)) x).trans ((cA2 x).trans (cA1 x))
    have nrow : ∀ c : Nat, c < (RS 0 47).toNat → callA G3 b RS c ≠ gn G := fun c hc z => by
      rw [cA3] at z
      rw [e47] at hc
      have := (R.co hc).2.2.1
      omega
    have pno := PL.no R3.1 hA3
    have wl4 : WL G4 b = WL G3 b := WL.md1 R3.2.2.2.2.2.2.2 m4 (pno.2.2.1 7 (by decide) (by decide))
    have cl4 : CallsE G4 e b RS := R3.2.2.1.md1 R3.1 m4 (pno.2.1 1 (by decide) (by decide) (by decide) (by decide)) (pno.2.1 10 (by decide) (by decide) (by decide) (by decide)) (fun c hc => pno.2.2.2 _ (R3.co hc).2.1 (R3.co hc).1 (nrow c hc))
    -- what the map knows
    obtain ⟨a48, a49, a50, a51, a52, a53, a54⟩ := addRow_at (S := RS) (fr := (fr : Int)) (to := (to : Int)) (last := last) (m := (m : Int))
    have hN1 : (addRow RS (fr : Int) (to : Int) last (m : Int) 0 47).toNat = (RS 0 47).toNat + 1 := by rw [addRow_47, e47]; omega
    have hN0 : (up2 (addRow RS (fr : Int) (to : Int) last (m : Int)) 51 (RS 0 47).toNat (-1) 0 47).toNat = (RS 0 47).toNat + 1 := by rw [up2_ne (Or.inl (by decide))]; exact hN1
    have eY : up2 (up2 (addRow RS (fr : Int) (to : Int) last (m : Int)) 51 (RS 0 47).toNat (-1)) 51 (RS 0 47).toNat (m : Int) = addRow RS (fr : Int) (to : Int) last (m : Int) := by
      funext f' x'
      by_cases h : f' = 51 ∧ x' = (RS 0 47).toNat
      · obtain ⟨rfl, rfl⟩ := h
        rw [up2_at, a51]
      · rw [up2_ne (if hf' : f' = 51 then Or.inr (fun hx' => h ⟨hf', hx'⟩) else Or.inl hf'), up2_ne (if hf' : f' = 51 then Or.inr (fun hx' => h ⟨hf', hx'⟩) else Or.inl hf')]
    have en : ∀ t, endS (up2 (addRow RS (fr : Int) (to : Int) last (m : Int)) 51 (RS 0 47).toNat (-1)) (RS 0 47).toNat t = if t = true then (sj : Int) else (si : Int) := fun t => by
      unfold endS fromS toS
      rw [up2_ne (Or.inl (by decide)), up2_ne (Or.inl (by decide)), up2_ne (Or.inl (by decide)), a49, a50, addRow_0 (by decide) (by decide) (by decide), e39, hsi, hsj]
    have hf0 : ∀ (m' i : Nat) (t : Bool), m' ≤ 8 → i ≤ 5 → f (spc m' i t.toNat) = if carriedAt (up2 (addRow RS (fr : Int) (to : Int) last (m : Int)) 51 (RS 0 47).toNat (-1)) (m' : Int) (i : Int) t = -1 then none else some ((fun x => if x = (RS 0 47).toNat then gn G else callA G4 b RS x) (carriedAt (up2 (addRow RS (fr : Int) (to : Int) last (m : Int)) 51 (RS 0 47).toNat (-1)) (m' : Int) (i : Int) t).toNat) := fun m' i t h1 h2 => by
      rw [carr_T0 VR (by omega), hf m' i t h1 h2]
      by_cases hw : carriedAt RS (m' : Int) (i : Int) t = -1
      · rw [if_pos hw, if_pos hw]
      · have rg := fnd_rng (p := fun c => decide (RS 51 c = (m' : Int) ∧ endS RS c t = (i : Int))) (RS 0 47).toNat 0
        have hx := (carriedAt_some (S := RS) (m := (m' : Int)) (v := (i : Int)) (b := t) (x := (carriedAt RS (m' : Int) (i : Int) t).toNat) (by unfold carriedAt at hw ⊢; omega)).1
        rw [if_neg hw, if_neg hw]
        dsimp only
        rw [if_neg (by omega), cA4]
    have hf4 := carrA_lay (A := fun x => if x = (RS 0 47).toNat then gn G else callA G4 b RS x) (T := up2 (addRow RS (fr : Int) (to : Int) last (m : Int)) 51 (RS 0 47).toNat (-1)) (c := (RS 0 47).toNat) (m := m) (nf := si) (nt := sj) (a := gn G) (by omega) hm8 up2_at (fun t => by
      rw [carr_T0 VR (by omega), en]
      cases t
      · exact rok.2.2.2.1
      · exact rok.2.2.2.2) ⟨en false, hsi5⟩ ⟨en true, hsj5⟩ (if_pos rfl) hf0
    rw [eY] at hf4
    have hsum : ((n + 1 + 1 : Nat) : Int) = 2 * sumI (fun c => b2i (decide (addRow RS (fr : Int) (to : Int) last (m : Int) 51 c ≠ -1))) ((RS 0 47).toNat + 1) 0 := by
      rw [sumI_snoc, Nat.zero_add, a51, decide_eq_true (show ((m : Int) ≠ -1) by omega), sumI_congr (g := fun x => b2i (decide (RS 51 x ≠ -1))) _ _ (fun x _ hx => by rw [addRow_off (by decide) (Or.inl (by omega))])]
      have : b2i true = 1 := rfl
      rw [this]
      omega
    have sA4 : ∀ g, g ≠ 110 → fI G4 g (gn G) = fI G1 g (gn G) := fun g hg => (fI4 g hg).trans (fI3 g)
    obtain ⟨iz1, iz2⟩ := idle_iff.mp ifr
    obtain ⟨jz1, jz2⟩ := idle_iff.mp ito
    obtain ⟨RR, mR⟩ := xr_add (a := gn G) (m := (m : Int)) (last := last) (fr := fr) (to := to) VR sh4 sc4 cl4 tl4 M4 hsum hf4 ⟨(m4.k aG3).trans (sa.1.trans k1), (m4.p aG3).trans (sa.2.2.1.trans p1), by have := m4.le; omega, (sA4 105 (by decide)).trans (i105.trans e46.symm), (sA4 106 (by decide)).trans i106, (sA4 107 (by decide)).trans i107, (sA4 108 (by decide)).trans (i108.trans e44.symm), (sA4 109 (by decide)).trans i109, f110, (sA4 111 (by decide)).trans i111⟩ (by rw [e46]; exact hb) (by rw [ecw]; exact iz1) (by rw [ecw]; exact jz1)
    rw [← bg] at RR
    -- the end of begin
    have ke4 := sh4.1
    have k12 := sh4.2.2.2.2.2.1.1
    have k13 := sh4.2.2.2.2.2.1.2.1
    have kb1 := sh4.2.2.2.2.2.2.2.1
    have lb1 := sh4.2.2.2.2.2.2.2.2.1
    have kb10 := sh4.2.2.2.2.2.2.2.2.2.2.2.2.2.2.2.2.2.2
    have lb10 : gL G4 (b + 10) = (S 0 38 * S 0 39).toNat := by
      have := sc4.2.2.2.2.2.2.2.2.1
      rw [eqR 0 38 (by decide) (by decide) (by decide), e39] at this
      exact this
    have f105 : fI G4 105 (gn G) = S 0 46 := (sA4 105 (by decide)).trans i105
    have f106 : fI G4 106 (gn G) = (fr : Int) := (sA4 106 (by decide)).trans i106
    have f107 : fI G4 107 (gn G) = (to : Int) := (sA4 107 (by decide)).trans i107
    have ka4 : gK G4 (gn G) = 9 := (m4.k aG3).trans (sa.1.trans k1)
    have f21 : fI G4 21 e = S 0 46 := sc4.2.2.2.1.trans e46
    have g105 : fI (setI G4 25 e (m : Int)) 105 (gn G) = S 0 46 := (hI_ne (Or.inl (by decide))).trans f105
    have g106 : fI (setI G4 25 e (m : Int)) 106 (gn G) = (fr : Int) := (hI_ne (Or.inl (by decide))).trans f106
    have g107 : fI (setI G4 25 e (m : Int)) 107 (gn G) = (to : Int) := (hI_ne (Or.inl (by decide))).trans f107
    refine r_X2_begin_40 ⟨ke4, c_X2_keep ⟨ke4, fun v1 hv1 => ⟨gn G, rfl, ka4, b + 1, hv1.symm.trans k12, kb1, ?_, fun b' hb' => by cases hb'; exact ka4, fun v7 hv7 => ⟨gn G, rfl, ka4, b + 10, hv7.symm.trans k13, kb10, ?_, fun v13 hv13 => ⟨gn G, rfl, ka4, b + 10, hv13.symm.trans k13, kb10, ?_, ?_⟩⟩⟩⟩⟩
    · rw [g105]; show 0 ≤ S 0 46 ∧ S 0 46 < (gL G4 (b + 1) : Int); rw [lb1]; omega
    · rw [g106]; show 0 ≤ (fr : Int) ∧ (fr : Int) < (gL G4 (b + 10) : Int); rw [lb10]; omega
    · rw [g107]; show 0 ≤ (to : Int) ∧ (to : Int) < (gL G4 (b + 10) : Int); rw [lb10]; omega
    · rw [g105, g106, g107, Int.toNat_natCast, Int.toNat_natCast]
      refine r_X2_begin_46 ⟨ke4, gn G, rfl, ka4, ?_⟩
      have j105 : fI (setI (setQ (setQ (setQ (setI G4 25 e (m : Int)) (b + 1) (S 0 46).toNat (some (gn G))) (b + 10) fr (some (gn G))) (b + 10) to (some (gn G))) 21 e (S 0 46 + 1)) 105 (gn G) = S 0 46 := (hI_ne (Or.inl (by decide))).trans g105
      have j21 : fI (setQ (setQ (setQ (setI G4 25 e (m : Int)) (b + 1) (S 0 46).toNat (some (gn G))) (b + 10) fr (some (gn G))) (b + 10) to (some (gn G))) 21 e = S 0 46 := (hI_ne (G := G4) (Or.inl (by decide))).trans f21
      have j105' : fI (setQ (setQ (setQ (setI G4 25 e (m : Int)) (b + 1) (S 0 46).toNat (some (gn G))) (b + 10) fr (some (gn G))) (b + 10) to (some (gn G))) 105 (gn G) = S 0 46 := g105
      rw [j21, j105']
      rw [e46] at RR mR
      have cgA : CgE e b G G1 := m1.mono (fun _ _ h => h.elim)
      have cgB : CgE e b G1 G2 := m2.mono (fun x hx h => R1.1.reg hx (Or.inr (Or.inl ⟨9, by decide, by decide, h⟩)))
      have cgC : CgE e b G2 G3 := mt.mono (PT.reg R2.1 hA2)
      have cgD : CgE e b G4 _ := mR.mono (fun x hx h => by
        rcases h with h | h | h
        · exact Or.inl h
        · rw [h]; exact (sh4.part 1 (by decide) (by decide)).1
        · rw [h]; exact (sh4.part 10 (by decide) (by decide)).1)
      have wl5 := WL.md1 tl4.2.2.2 mR (fun x hx ho h => by
        rcases ho with ho | ho
        · have := sh4.2.2.1; omega
        · obtain ⟨o1, o2, -⟩ := sh4.own (j := 7) (by decide) ho
          rcases h with h | h | h
          · exact o1 h
          · exact o2 1 (by decide) (by decide) h
          · exact o2 10 (by decide) (by decide) h)
      have wl := wl5.trans (wl4.trans (wl3.trans (wl2.trans wl1)))
      refine q _ ⟨⟨cgA.trans (cgB.trans (cgC.trans (cg4.trans cgD))), ?_, RR⟩, fun x hx => by rw [wl] at hx; exact hx⟩ wl
      have r1 : Rm 487 2761 G G2 (b + 2) := Rm.same (c2.trans c1) (by omega) (by omega)
      have r2 := (r1.trans rm).trans rm4
      unfold Rm at r2 ⊢
      have e1 : capM (setI (setQ (setQ (setQ (setI G4 25 e (m : Int)) (b + 1) (S 0 46).toNat (some (gn G))) (b + 10) fr (some (gn G))) (b + 10) to (some (gn G))) 21 e (S 0 46 + 1)) (b + 2) = capM G4 (b + 2) := rfl
      have e2 : gn (setI (setQ (setQ (setQ (setI G4 25 e (m : Int)) (b + 1) (S 0 46).toNat (some (gn G))) (b + 10) fr (some (gn G))) (b + 10) to (some (gn G))) 21 e (S 0 46 + 1)) = gn G4 := rfl
      have e3 : gs (setI (setQ (setQ (setQ (setI G4 25 e (m : Int)) (b + 1) (S 0 46).toNat (some (gn G))) (b + 10) fr (some (gn G))) (b + 10) to (some (gn G))) 21 e (S 0 46 + 1)) = gs G4 := rfl
      rw [e1, e2, e3]
      omega
end BEGIN2
