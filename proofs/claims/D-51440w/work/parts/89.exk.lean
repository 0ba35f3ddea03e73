/-! THE EXCHANGE, 20: hanging up, the tick -/
section TICK
variable {Z : ZT} {d : Nat} {G : GH} {Q : TR → GH → Prop} {e b : Nat} {S S' T T' : St}
/-- where a waiter stands -/
theorem wait_one {s : Int} {w : Nat} (V : Inv S) (h : waitAt S s = (w : Int)) : w < (S 0 55).toNat ∧ S 56 w = s ∧ ∀ x : Nat, x < (S 0 55).toNat → x ≠ w → S 56 x ≠ s := by
  obtain ⟨h1, h2⟩ := waitAt_some h
  exact ⟨h1, h2, fun x hx hne z => V.2.2.2.2.2.2.2.2.2.1 x w hx h1 hne (z.trans h2.symm)⟩
/-- hanging up -/
theorem xc_hangUp {s : Nat} (V : Inv S) (R : Rep Z G e b S S) (E : EnvE Z G) (hs : (s : Int) < S 0 38 * S 0 39) (hi : idleB S (s : Int) = false)
    (q : ∀ G' N, N ≤ 8 → OpR Z e b (1017 * N) (5714 * N) G G' (hangs S (s : Int)).2 → Q (.inl (some (tI (hangs S (s : Int)).1))) G') : TC Z (d + 14) mi_X2_hangUp [tR (some e), tI (s : Int)] G Q := by
  have r55 := V.r55
  have r47 := V.r47
  have s36 := sub36 V.1
  have k13 := R.1.2.2.2.2.2.1.2.1
  have k18 := R.1.2.2.2.2.2.1.2.2.2.2.2.2.1
  have kb10 := R.1.2.2.2.2.2.2.2.2.2.2.2.2.2.2.2.2.2.2
  have lb10 := R.2.1.2.2.2.2.2.2.2.2.1
  obtain ⟨w1, w2, w3⟩ := R.2.2.2.2.2.2.2
  unfold hangs at q
  refine c_X2_hangUp ⟨R.k, fun v1 hv1 => ⟨b + 10, hv1.symm.trans k13, Or.inl kb10, by rw [lb10]; omega, fun v5 hv5 => ?_⟩⟩
  rw [Int.toNat_natCast, R.2.2.1.2.2 s (by omega)] at hv5
  by_cases hc : callWith S (s : Int) = -1
  · rw [if_pos hc] at hv5 q
    have hw : waitAt S (s : Int) ≠ -1 := fun z => by rw [idle_iff.mpr ⟨hc, z⟩] at hi; cases hi
    have rg := fnd_rng (p := fun w => decide (S 56 w = (s : Int))) (S 0 55).toNat 0
    obtain ⟨w, hwn⟩ : ∃ w : Nat, waitAt S (s : Int) = (w : Int) := ⟨(waitAt S (s : Int)).toNat, by unfold waitAt at hw ⊢; omega⟩
    obtain ⟨o1, o2, o3⟩ := wait_one V hwn
    rw [hwn, Int.toNat_natCast] at q
    -- behind the loop
    have fin : ∀ (G1 : GH) (o3 o4 : Option Value), OpR Z e b 0 0 G G1 (delWait S w) → EnvE Z G1 → ((gK G1 e = 2) ∧ TC Z (d + 13) mi_X2_serve [tR (some e)] G1 (KQ Z mi_X2_hangUp (d + 14) 79 82 [some (tR (some e)), some (tI (s : Int)), some (tR none), o3, o4] [] Q)) := by
      intro G1 o3 o4 o E1
      have V1 := V.delW o1
      have r55' := V1.r55
      have s5 := serve_55 _ 0 (delWait S w) V1 (Nat.zero_add _)
      refine ⟨o.1.2.2.k, xc_serve V1 o.1.2.2 E1 (fun G2 o' => r_X2_hangUp_82 ⟨fun _ => ?_, fun a1 ha1 => by cases ha1⟩)⟩
      refine q G2 (delWait S w 0 55 - serves (delWait S w) 0 55).toNat ?_ ((o.trans o').mono (by omega) (by omega))
      have : serves (delWait S w) 0 55 = servesL (delWait S w 0 55).toNat 0 (delWait S w) 0 55 := rfl
      omega
    -- below the waiter
    have low : ∀ (k : Nat) (G1 : GH) (o4 : Option Value), k ≤ w → OpR Z e b 0 0 G G1 (delWait S w) → EnvE Z G1 → TW Z mi_X2_hangUp (d + 14) 33 [some (tR (some e)), some (tI (s : Int)), some (tR none), some (tI ((k : Int) + (-1))), o4] [] G1 Q := by
      intro k
      induction k with
      | zero =>
        intro G1 o4 _ o E1
        exact r_X2_hangUp_33 ⟨by omega, fun _ => fin G1 _ _ o E1, fun hn => by omega⟩
      | succ k ih =>
        intro G1 o4 hk o E1
        have R1 := o.1.2.2
        obtain ⟨x1, x2, x3⟩ := R1.2.2.2.2.2.2.2
        rw [delWait_55] at x2
        have kl : k < (WL G1 b).length := by omega
        have WO := x3 k kl
        have hne : S 56 k ≠ (s : Int) := o3 k (by omega) (by omega)
        have f112 : fI G1 112 ((WL G1 b).getD k 0) = S 56 k := by
          rw [WO.2.2.2.1, delWait_row (by decide) (by decide) (by omega), show shf w k = k from if_pos (by omega)]
        have wr := (V.1.2.2.1 k (by omega)).1
        have k18' := R1.1.2.2.2.2.2.1.2.2.2.2.2.2.1
        have ek : (((k + 1 : Nat) : Int) + (-1)) = (k : Int) := by omega
        rw [ek]
        refine r_X2_hangUp_33 ⟨by omega, fun hn => by omega, fun _ => ⟨R1.k, fun v2 hv2 => ⟨b + 7, hv2.symm.trans k18', x1.1, jc_get (d := d + 10) x1 kl (r_X2_hangUp_47 ⟨fun b' hb' => by cases hb'; exact WO.1, _, rfl, WO.1, by rw [f112]; omega, by omega, fun _ => ih G1 _ (by omega) o E1, fun he => absurd (f112.symm.trans he) hne⟩)⟩⟩⟩
    -- from the last down to the waiter
    have high : ∀ (k : Nat) (o4 : Option Value), w < k → k ≤ (S 0 55).toNat → TW Z mi_X2_hangUp (d + 14) 33 [some (tR (some e)), some (tI (s : Int)), some (tR none), some (tI ((k : Int) + (-1))), o4] [] G Q := by
      intro k
      induction k with
      | zero => intro o4 h _; omega
      | succ k ih =>
        intro o4 hk hk2
        have kl : k < (WL G b).length := by omega
        have WO := w3 k kl
        have f112 : fI G 112 ((WL G b).getD k 0) = S 56 k := WO.2.2.2.1
        have wr := (V.1.2.2.1 k (by omega)).1
        have ek : (((k + 1 : Nat) : Int) + (-1)) = (k : Int) := by omega
        rw [ek]
        refine r_X2_hangUp_33 ⟨by omega, fun hn => by omega, fun _ => ⟨R.k, fun v2 hv2 => ⟨b + 7, hv2.symm.trans k18, w1.1, jc_get (d := d + 10) w1 kl (r_X2_hangUp_47 ⟨fun b' hb' => by cases hb'; exact WO.1, _, rfl, WO.1, by rw [f112]; omega, by omega, fun hne => ?_, fun he => ⟨R.k, fun v4 hv4 => ⟨b + 7, hv4.symm.trans k18, w1.1, ?_⟩⟩⟩)⟩⟩⟩
        · rw [f112] at hne
          have : k ≠ w := fun z => hne (by rw [z]; exact o2)
          exact ih _ (by omega) (by omega)
        · rw [f112] at he
          have : k = w := by
            by_cases z : k = w
            · exact z
            · exact absurd he (o3 k (by omega) z)
          subst this
          exact xc_unwait (d := d + 10) r55.1 R o1 (fun G1 o wl => r_X2_hangUp_67 ⟨fun b' hb' => (by
            cases hb'
            have := WO.md o.1.1 R.1.fp
            exact this.1), low k G1 _ (Nat.le_refl _) o (E.op R o)⟩)
    refine ⟨fun _ => fun v9 hv9 => ⟨b + 7, hv9.symm.trans k18, w1.1, jc_size w1 (r_X2_hangUp_30 ?_)⟩, fun a ha => by rw [← hv5] at ha; cases ha⟩
    have := high (S 0 55).toNat none (by omega) (Nat.le_refl _)
    rw [w2, Int.sub_eq_add_neg]
    exact this
  · rw [if_neg hc] at hv5 q
    have rg := fnd_rng (p := fun c => decide (S 49 c = (s : Int) ∨ S 50 c = (s : Int))) (S 0 47).toNat 0
    obtain ⟨c, hcn⟩ : ∃ c : Nat, callWith S (s : Int) = (c : Int) := ⟨(callWith S (s : Int)).toNat, by unfold callWith at hc ⊢; omega⟩
    obtain ⟨c1, c2⟩ := callWith_some hcn
    rw [hcn, Int.toNat_natCast] at hv5 q
    have C := R.co c1
    refine ⟨fun hn => (by rw [← hv5] at hn; cases hn), fun a7 ha7 => ?_⟩
    have ea : a7 = callA G b S c := by rw [← hv5] at ha7; cases ha7; rfl
    subst ea
    refine xc_end (d := d + 6) (acct := 6) V R c1 (by decide) (fun G1 o wl => r_X2_hangUp_18 ?_)
    have V1 := (V.del c1).acc 6 1
    have E1 := E.op R o
    have R1 := o.1.2.2
    have r55' := V1.r55
    have s5 := serve_55 _ 0 (addAcc (delRow S c) 6 1) V1 (Nat.zero_add _)
    refine ⟨R1.k, xc_serve V1 R1 E1 (fun G2 o' => r_X2_hangUp_82 ⟨fun hn => (by cases hn), fun a1 ha1 => ?_⟩)⟩
    cases ha1
    have kc : gK G2 (callA G b S c) = 9 := by rw [o'.1.1.k (by have := o.1.1.le; have := C.2.2.1; omega), o.1.1.k C.2.2.1]; exact C.1
    have n1 := o.1.1.num C.2.2.1 C.1
    have n2 := o'.1.1.num (by have := o.1.1.le; have := C.2.2.1; omega) ((o.1.1.k C.2.2.1).trans C.1)
    refine ⟨kc, ?_⟩
    rw [n2, n1, C.2.2.2.1]
    exact q G2 (addAcc (delRow S c) 6 1 0 55 - serves (addAcc (delRow S c) 6 1) 0 55).toNat (by
      have : serves (addAcc (delRow S c) 6 1) 0 55 = servesL (addAcc (delRow S c) 6 1 0 55).toNat 0 (addAcc (delRow S c) 6 1) 0 55 := rfl
      omega) ((o.trans o').mono (by omega) (by omega))
end TICK
