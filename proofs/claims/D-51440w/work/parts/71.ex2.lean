/-! THE EXCHANGE, 2: what is read of it -/
section EXR
variable {Z : ZT} {d : Nat} {G : GH} {Q : TR → GH → Prop} {e b : Nat} {S T : St}
theorem Rep.k (R : Rep Z G e b S T) : gK G e = 2 := R.1.1
theorem Inv.r38 (V : Inv S) : 1 ≤ S 0 38 ∧ S 0 38 ≤ 6 := V.1.1.1
theorem Inv.r39 (V : Inv S) : 1 ≤ S 0 39 ∧ S 0 39 ≤ 6 := V.1.1.2.1
theorem Inv.r40 (V : Inv S) : 1 ≤ S 0 40 ∧ S 0 40 ≤ 9 := V.1.1.2.2.1
theorem Inv.r46 (V : Inv S) : 0 ≤ S 0 46 ∧ S 0 46 ≤ 200 := V.1.1.2.2.2.2.2.2.2.2.1
theorem Inv.r47 (V : Inv S) : 0 ≤ S 0 47 ∧ S 0 47 ≤ 18 := V.1.1.2.2.2.2.2.2.2.2.2.1
theorem Inv.r55 (V : Inv S) : 0 ≤ S 0 55 ∧ S 0 55 ≤ 8 := V.1.1.2.2.2.2.2.2.2.2.2.2.1
theorem Inv.r60 (V : Inv S) : 0 ≤ S 0 60 ∧ S 0 60 ≤ 4 := V.1.1.2.2.2.2.2.2.2.2.2.2.2
theorem Inv.row (V : Inv S) {c : Nat} (hc : c < (S 0 47).toNat) : RowR S c := V.1.2.1 c hc
theorem xc_stage {x : Int} (V : Inv S) (R : Rep Z G e b S T) (hx : inR x) (q : Q (.inl (some (tI (x.tdiv (S 0 39))))) G) : TC Z (d + 1) mi_X2_stage [tR (some e), tI x] G Q := by
  have := V.r39
  have e10 := R.2.1.2.1
  exact c_X2_stage ⟨R.k, hx, by rw [e10]; omega, by rw [e10]; omega, by rw [e10]; exact q⟩
theorem xc_subscribers (R : Rep Z G e b S T) (q : Q (.inl (some (tI (S 0 38 * S 0 39)))) G) : TC Z (d + 1) mi_X2_subscribers [tR (some e)] G Q :=
  c_X2_subscribers ⟨R.k, by rw [R.2.1.1, R.2.1.2.1]; exact q⟩
theorem xc_from {a c : Nat} (V : Inv S) (R : Rep Z G e b S T) (C : CallO G e a S c) (hx : inR (S 49 c)) (q : Q (.inl (some (tI (fromS S c)))) G) : TC Z (d + 2) mi_X2_from [tR (some e), tR (some a)] G Q :=
  c_X2_from ⟨a, rfl, C.1, R.k, by rw [C.2.2.2.2.1]; exact xc_stage V R hx (r_X2_from_8 q)⟩
theorem xc_to {a c : Nat} (V : Inv S) (R : Rep Z G e b S T) (C : CallO G e a S c) (hx : inR (S 50 c)) (q : Q (.inl (some (tI (toS S c)))) G) : TC Z (d + 2) mi_X2_to [tR (some e), tR (some a)] G Q :=
  c_X2_to ⟨a, rfl, C.1, R.k, by rw [C.2.2.2.2.2.1]; exact xc_stage V R hx (r_X2_to_8 q)⟩
/-- where a loop over the calls' numbers stands: rows before c have smaller numbers, the others none -/
def PtrI (S : St) (k c : Nat) : Prop := c ≤ (S 0 47).toNat ∧ (∀ x : Nat, x < c → S 48 x < (k : Int)) ∧ ∀ x : Nat, c ≤ x → x < (S 0 47).toNat → (k : Int) ≤ S 48 x
theorem PtrI.zero (V : Inv S) : PtrI S 0 0 := ⟨Nat.zero_le _, fun x hx => absurd hx (Nat.not_lt_zero x), fun x _ hx => (V.row hx).1.1⟩
theorem PtrI.hit {k c : Nat} (V : Inv S) (h : PtrI S k c) (hc : c < (S 0 47).toNat) (hk : S 48 c = (k : Int)) : PtrI S (k + 1) (c + 1) := by
  obtain ⟨h1, h2, h3⟩ := h
  refine ⟨hc, fun x hx => ?_, fun x hx hx' => ?_⟩
  · by_cases e : x = c
    · rw [e, hk]; omega
    · have := h2 x (by omega); omega
  · have := V.2.2.2.1 c x (by omega) hx'
    omega
theorem PtrI.miss {k c : Nat} (V : Inv S) (h : PtrI S k c) (hk : ¬ (c < (S 0 47).toNat ∧ S 48 c = (k : Int))) : PtrI S (k + 1) c := by
  obtain ⟨h1, h2, h3⟩ := h
  refine ⟨h1, fun x hx => ?_, fun x hx hx' => ?_⟩
  · have := h2 x hx; omega
  · have hc : c < (S 0 47).toNat := by omega
    have a1 := h3 c (Nat.le_refl _) hc
    have a2 : S 48 c ≠ (k : Int) := fun z => hk ⟨hc, z⟩
    by_cases e : x = c
    · rw [e]; omega
    · have := V.2.2.2.1 c x (by omega) hx'
      omega
theorem PtrI.none {k c : Nat} (h : PtrI S k c) (hk : ¬ (c < (S 0 47).toNat ∧ S 48 c = (k : Int))) (V : Inv S) : ∀ x : Nat, x < (S 0 47).toNat → S 48 x ≠ (k : Int) := by
  intro x hx
  by_cases hxc : x < c
  · have := h.2.1 x hxc; omega
  · have h' := (h.miss V hk).2.2 x (by omega) hx
    omega
theorem PtrI.end {k c : Nat} (V : Inv S) (h : PtrI S k c) (hk : S 0 46 ≤ (k : Int)) : c = (S 0 47).toNat := by
  obtain ⟨h1, h2, h3⟩ := h
  by_cases hc : c < (S 0 47).toNat
  · have a := h3 c (Nat.le_refl _) hc
    have b := V.2.2.2.2.1 c hc
    omega
  · omega
/-- what stands at a number -/
theorem Rep.at {k c : Nat} (V : Inv S) (R : Rep Z G e b S T) (P : PtrI S k c) (hk : k < 200) : aR G (b + 1) k = if c < (S 0 47).toNat ∧ S 48 c = (k : Int) then some (callA G b S c) else none := by
  split
  · rename_i h
    have := (R.2.2.1.1 c h.1).1
    rw [h.2, Int.toNat_natCast] at this
    exact this
  · rename_i h
    exact R.2.2.1.2.1 k hk (P.none h V)
theorem Rep.co {c : Nat} (R : Rep Z G e b S T) (hc : c < (S 0 47).toNat) : CallO G e (callA G b S c) S c := (R.2.2.1.1 c hc).2
theorem xc_live (V : Inv S) (R : Rep Z G e b S T) (q : Q (.inl (some (tI (S 0 47)))) G) : TC Z (d + 1) mi_X2_live [tR (some e)] G Q := by
  have r46 := V.r46
  have r47 := V.r47
  have loop : ∀ (r k c : Nat), k + r = (S 0 46).toNat → PtrI S k c → TW Z mi_X2_live (d + 1) 4 [some (tR (some e)), some (tI (c : Int)), some (tI (k : Int))] [] G Q := by
    intro r
    induction r with
    | zero =>
      intro k c hk P
      have := P.end V (by omega)
      refine r_X2_live_4 ⟨R.k, by omega, by rw [R.2.1.2.2.2.1]; omega, fun _ => ?_, fun hn => by rw [R.2.1.2.2.2.1] at hn; omega⟩
      rw [this, Int.toNat_of_nonneg r47.1]
      exact q
    | succ r ih =>
      intro k c hk P
      refine r_X2_live_4 ⟨R.k, by omega, by rw [R.2.1.2.2.2.1]; omega, fun hn => by rw [R.2.1.2.2.2.1] at hn; omega, fun _ v2 hv2 => ⟨b + 1, hv2.symm.trans R.1.2.2.2.2.2.1.1, Or.inl R.1.2.2.2.2.2.2.2.1, by rw [R.1.2.2.2.2.2.2.2.2.1]; omega, fun v6 hv6 => ?_⟩⟩
      rw [Int.toNat_natCast, R.at V P (by omega)] at hv6
      by_cases hh : c < (S 0 47).toNat ∧ S 48 c = (k : Int)
      · rw [if_pos hh] at hv6
        refine ⟨fun hn => (by rw [← hv6] at hn; cases hn), fun a8 ha8 => ?_⟩
        exact ih (k + 1) (c + 1) (by omega) (P.hit V hh.1 hh.2)
      · rw [if_neg hh] at hv6
        refine ⟨fun _ => ih (k + 1) c (by omega) (P.miss V hh), fun a8 ha8 => by rw [← hv6] at ha8; cases ha8⟩
  exact c_X2_live (loop (S 0 46).toNat 0 0 (by omega) (PtrI.zero V))
/-- the waiter of a subscriber -/
theorem xc_waiter {s : Int} (V : Inv S) (R : Rep Z G e b S T) (hs : inR s) (q : Q (.inl (some (tR (if waitAt S s = -1 then none else some ((WL G b).getD (waitAt S s).toNat 0))))) G) : TC Z (d + 4) mi_X2_waiter [tR (some e), tI s] G Q := by
  have r55 := V.r55
  obtain ⟨w1, w2, w3⟩ := R.2.2.2.2.2.2.2
  have k18 := R.1.2.2.2.2.2.1.2.2.2.2.2.2.1
  have loop : ∀ (r w : Nat), w + r = (S 0 55).toNat → waitAt S s = fnd (fun w => decide (S 56 w = s)) r w → TW Z mi_X2_waiter (d + 4) 2 [some (tR (some e)), some (tI s), some (tI (w : Int))] [] G Q := by
    intro r
    induction r with
    | zero =>
      intro w hw hf
      have hf : waitAt S s = -1 := hf
      rw [if_pos hf] at q
      refine r_X2_waiter_2 ⟨R.k, fun v1 hv1 => ⟨b + 7, hv1.symm.trans k18, w1.1, jc_size w1 (r_X2_waiter_12 ⟨by omega, by omega, fun _ => q, fun hn => by omega⟩)⟩⟩
    | succ r ih =>
      intro w hw hf
      have hwl : w < (WL G b).length := by omega
      have o := w3 w hwl
      have hr := V.1.2.2.1 w (by omega)
      refine r_X2_waiter_2 ⟨R.k, fun v1 hv1 => ⟨b + 7, hv1.symm.trans k18, w1.1, jc_size w1 (r_X2_waiter_12 ⟨by omega, by omega, fun hn => by omega, fun _ => ⟨R.k, fun v2 hv2 => ⟨b + 7, hv2.symm.trans k18, w1.1, jc_get w1 hwl (r_X2_waiter_25 ⟨fun b' hb' => by cases hb'; exact o.1, _, rfl, o.1, ?_, hs, fun hne => ?_, fun heq => ⟨R.k, fun v4 hv4 => ⟨b + 7, hv4.symm.trans k18, w1.1, jc_get w1 hwl (r_X2_waiter_45 ⟨fun b' hb' => by cases hb'; exact o.1, ?_⟩)⟩⟩⟩)⟩⟩⟩)⟩⟩
      · rw [o.2.2.2.1]; have := hr.1; omega
      · rw [o.2.2.2.1] at hne
        refine ih (w + 1) (by omega) ?_
        rw [hf]
        simp only [fnd, decide_eq_true_eq]
        rw [if_neg hne]
      · rw [o.2.2.2.1] at heq
        have hw' : waitAt S s = (w : Int) := by
          rw [hf]
          simp only [fnd, decide_eq_true_eq]
          rw [if_pos heq]
        rw [if_neg (by omega), hw', Int.toNat_natCast] at q
        exact q
  exact c_X2_waiter (loop _ 0 (by omega) rfl)
theorem xc_stateOf {s : Nat} (V : Inv S) (R : Rep Z G e b S T) (hs : (s : Int) < S 0 38 * S 0 39) (q : Q (.inl (some (tI (if callWith S (s : Int) = -1 then (if waitAt S (s : Int) = -1 then 0 else 2) else 1)))) G) : TC Z (d + 5) mi_X2_stateOf [tR (some e), tI (s : Int)] G Q := by
  have s36 := sub36 V.1
  have t13 := R.1.2.2.2.2.2.1.2.1
  have g10 := R.2.1.2.2.2.2.2.2.2.2.1
  refine c_X2_stateOf ⟨R.k, fun v1 hv1 => ⟨b + 10, hv1.symm.trans t13, Or.inl R.1.2.2.2.2.2.2.2.2.2.2.2.2.2.2.2.2.2.2, by rw [g10]; omega, fun v5 hv5 => ?_⟩⟩
  rw [Int.toNat_natCast, R.2.2.1.2.2 s (by omega)] at hv5
  by_cases hc : callWith S (s : Int) = -1
  · rw [if_pos hc] at hv5 q
    refine ⟨fun _ => xc_waiter V R (by omega) (r_X2_stateOf_18 ⟨fun hn => ?_, fun a ha => ?_⟩), fun a ha => by rw [← hv5] at ha; cases ha⟩
    · by_cases hw : waitAt S (s : Int) = -1
      · rw [if_pos hw] at q; exact q
      · rw [if_neg hw] at hn; cases hn
    · by_cases hw : waitAt S (s : Int) = -1
      · rw [if_pos hw] at ha; cases ha
      · rw [if_neg hw] at q; exact q
  · rw [if_neg hc] at hv5 q
    exact ⟨fun hn => (by rw [← hv5] at hn; cases hn), fun _ _ => q⟩
theorem xc_isIdle {s : Nat} (V : Inv S) (R : Rep Z G e b S T) (hs : (s : Int) < S 0 38 * S 0 39) (q : Q (.inl (some (tI (b2i (idleB S (s : Int)))))) G) : TC Z (d + 6) mi_X2_isIdle [tR (some e), tI (s : Int)] G Q := by
  refine c_X2_isIdle ⟨R.k, xc_stateOf V R hs (r_X2_isIdle_5 ?_)⟩
  by_cases hc : callWith S (s : Int) = -1
  · rw [if_pos hc]
    by_cases hw : waitAt S (s : Int) = -1
    · rw [if_pos hw]
      rw [idle_iff.mpr ⟨hc, hw⟩] at q
      exact ⟨by decide, fun hn => absurd rfl hn, fun _ => q⟩
    · rw [if_neg hw]
      have : idleB S (s : Int) = false := by
        cases h : idleB S (s : Int)
        · rfl
        · exact absurd (idle_iff.mp h).2 hw
      rw [this] at q
      exact ⟨by decide, fun _ => q, fun hn => absurd hn (by decide)⟩
  · rw [if_neg hc]
    have : idleB S (s : Int) = false := by
      cases h : idleB S (s : Int)
      · rfl
      · exact absurd (idle_iff.mp h).1 hc
    rw [this] at q
    exact ⟨by decide, fun _ => q, fun hn => absurd hn (by decide)⟩
/-- is a middle in order -/
theorem xc_isInOrder {m : Nat} (V : Inv S) (R : Rep Z G e b S T) (hE : EnvI Z G) (hm : (m : Int) < S 0 40) (q : Q (.inl (some (tI (b2i (!isCutB S (m : Int)))))) G) : TC Z (d + 8) mi_X2_isInOrder [tR (some e), tI (m : Int)] G Q := by
  have r40 := V.r40
  obtain ⟨n, f, C, hn, hf⟩ := R.2.2.2.2.1
  refine c_X2_isInOrder ⟨R.k, fun v1 hv1 => jc_valueOf hE (by omega) (fun a ha => r_X2_isInOrder_8 ⟨b + 3, hv1.symm.trans R.1.2.2.2.2.2.1.2.2.2.1, C.1, js_has C ⟨ha, by omega, by omega⟩ (r_X2_isInOrder_11 ?_)⟩)⟩
  by_cases hc : f (m : Int) = none
  · rw [if_pos hc]
    rw [(hf m hm).mp hc] at q
    exact ⟨by decide, fun hn => absurd rfl hn, fun _ => q⟩
  · rw [if_neg hc]
    have : isCutB S (m : Int) = true := by
      cases h : isCutB S (m : Int)
      · exact absurd ((hf m hm).mpr h) hc
      · rfl
    rw [this] at q
    exact ⟨by decide, fun _ => q, fun hn => absurd hn (by decide)⟩
theorem xc_inOrder (R : Rep Z G e b S T) (q : Q (.inl (some (tI (inOrd S)))) G) : TC Z (d + 3) mi_X2_inOrder [tR (some e)] G Q := by
  obtain ⟨n, f, C, hn, hf⟩ := R.2.2.2.2.1
  refine c_X2_inOrder ⟨R.k, fun v1 hv1 => ⟨b + 3, hv1.symm.trans R.1.2.2.2.2.2.1.2.2.2.1, C.1, js_size C (r_X2_inOrder_11 ?_)⟩⟩
  rw [R.2.1.2.2.1, hn, show S 0 40 - (S 0 40 - inOrd S) = inOrd S by omega]
  exact q
/-- nothing changed but the probe -/
def Qk (b : Nat) (G G' : GH) : Prop := Md (fun c => c = b + 9) G G' ∧ gn G' = gn G ∧ gs G' = gs G
theorem Qk.rf : Qk b G G := ⟨Md.rf, rfl, rfl⟩
theorem Qk.trans {A B C : GH} (h : Qk b A B) (k : Qk b B C) : Qk b A C := ⟨h.1.trans k.1, k.2.1.trans h.2.1, k.2.2.trans h.2.2⟩
theorem fp9 (h : ShE G e b) : FP G (fun c => c = b + 9) := fun c hc e9 => h.fp c hc (by rw [e9]; exact (h.part 9 (by decide) (by decide)).1)
theorem Rep.m9 {G' : GH} (R : Rep Z G e b S T) (m : Md (fun c => c = b + 9) G G') : Rep Z G' e b S T ∧ WL G' b = WL G b ∧ ∀ c, callA G' b S c = callA G b S c := R.md m (fun c _ _ h => h) (fp9 R.1)
theorem Rep.qk {G' : GH} (R : Rep Z G e b S T) (m : Qk b G G') : Rep Z G' e b S T := (R.m9 m.1).1
theorem Rep.qA {G' : GH} (R : Rep Z G e b S T) (m : Qk b G G') (c : Nat) : callA G' b S c = callA G b S c := (R.m9 m.1).2.2 c
theorem Rep.qE {G' : GH} (R : Rep Z G e b S T) (E : EnvI Z G) (m : Qk b G G') : EnvI Z G' := E.md m.1 (fp9 R.1)
/-- what a middle carries -/
theorem xc_carriedBy {m i : Nat} {t : Bool} (R : Rep Z G e b S T) (hm : m ≤ 8) (hi : i ≤ 5) (q : ∀ G', Qk b G G' → Q (.inl (some (tR (if carriedAt T (m : Int) (i : Int) t = -1 then none else some (callA G b S (carriedAt T (m : Int) (i : Int) t).toNat))))) G') (hc : ∀ x : Nat, carriedAt T (m : Int) (i : Int) t = (x : Int) → x < (S 0 47).toNat) : TC Z (d + 6) mi_X2_carriedBy [tR (some e), tI (m : Int), tI (i : Int), tI ((t.toNat : Nat) : Int)] G Q := by
  have h14 := R.1.2.2.2.2.2.1.2.2.1
  have h20 := R.1.2.2.2.2.2.1.2.2.2.2.2.2.2.2
  have k9 := R.1.2.2.2.2.2.2.2.2.2.2.2.2.2.2.2.2.2.1
  have p9 := R.1.part 9 (by decide) (by decide)
  have tb : t.toNat ≤ 1 := by cases t <;> decide
  refine c_X2_carriedBy ⟨R.k, fun v1 hv1 v3 hv3 => ⟨b + 9, hv3.symm.trans h20, k9, c_X3_at ⟨k9, by omega, r_X2_carriedBy_14 ⟨b + 2, hv1.symm.trans h14, ?_⟩⟩⟩⟩
  have m1 : Md (fun c => c = b + 9) G (setI (setI (setI G 26 (b + 9) (m : Int)) 27 (b + 9) (i : Int)) 28 (b + 9) ((t.toNat : Nat) : Int)) := ((Md.setI (P := fun c => c = b + 9) Md.rf p9.2 (fun _ => rfl)).setI p9.2 (fun _ => rfl)).setI p9.2 (fun _ => rfl)
  have K1 : Qk b G (setI (setI (setI G 26 (b + 9) (m : Int)) 27 (b + 9) (i : Int)) 28 (b + 9) ((t.toNat : Nat) : Int)) := ⟨m1, rfl, rfl⟩
  have V1 : SpotV (setI (setI (setI G 26 (b + 9) (m : Int)) 27 (b + 9) (i : Int)) 28 (b + 9) ((t.toNat : Nat) : Int)) (b + 9) m i t.toNat := ⟨k9, p9.2, hm, hi, tb, (hI_ne (Or.inl (by decide))).trans ((hI_ne (Or.inl (by decide))).trans hI_at), (hI_ne (Or.inl (by decide))).trans hI_at, hI_at⟩
  generalize setI (setI (setI G 26 (b + 9) (m : Int)) 27 (b + 9) (i : Int)) 28 (b + 9) ((t.toNat : Nat) : Int) = G1 at *
  have R1 := R.qk K1
  obtain ⟨n, f, M, hn, hf⟩ := R1.2.2.2.1
  have k2 : gK G1 (b + 2) = 12 := R1.1.2.2.2.2.2.2.2.2.2.1
  refine ⟨k2, jv_get k2 M (ky_spot V1) (fun G2 m2 rr k' hk' => ?_) (fun G2 m2 rr n2 s2 => r_X2_carriedBy_17 ?_)⟩
  · subst rr; exact eq_spot V1 hk'
  · have e2 : G2 = G1 := rr.elim id id
    subst e2
    rw [hf m i t hm hi]
    have cA := R.qA K1
    refine ⟨fun b' hb' => ?_, ?_⟩
    · by_cases hz : carriedAt T (m : Int) (i : Int) t = -1
      · rw [if_pos hz] at hb'; cases hb'
      · rw [if_neg hz] at hb'
        have rg := fnd_rng (p := fun c => decide (T 51 c = (m : Int) ∧ endS T c t = (i : Int))) (T 0 47).toNat 0
        have hx := hc (carriedAt T (m : Int) (i : Int) t).toNat (by unfold carriedAt at hz ⊢; omega)
        cases hb'
        exact (R1.co hx).1
    · simp only [cA]
      exact q G2 K1
/-- T's rows are S's -/
def SameR (S T : St) : Prop := (∀ k, T 0 k = S 0 k) ∧ ∀ f c : Nat, f ≠ 51 → T f c = S f c
theorem SameR.rf : SameR S S := ⟨fun _ => rfl, fun _ _ _ => rfl⟩
theorem cA_lt {x : Nat} {m i : Int} {t : Bool} (h : SameR S T) (hx : carriedAt T m i t = (x : Int)) : x < (S 0 47).toNat := by
  have := (carriedAt_some hx).1
  rw [h.1] at this
  exact this
end EXR
