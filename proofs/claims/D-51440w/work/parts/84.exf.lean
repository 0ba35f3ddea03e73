/-! THE EXCHANGE, 15: a call ends, by itself or as its subscriber hangs up -/
section END2
variable {Z : ZT} {d : Nat} {G : GH} {Q : TR → GH → Prop} {e b : Nat} {S S' T T' : St}
def EndF (G : GH) (t : Nat) (r1 : Option Nat) (x2 : Int) (Q : TR → GH → Prop) : Prop := (gK (G) t = 2) ∧ ∀ v1, fR G 12 t = v1 → ∃ a3, r1 = some a3 ∧ (gK (G) a3 = 9) ∧ ∃ a5, v1 = some a5 ∧ (gK (G) a5 = 105) ∧ (0 ≤ fI G 105 a3 ∧ fI G 105 a3 < (gL (G) a5 : Int)) ∧ ∀ v7, fR G 13 t = v7 → ∃ a9, r1 = some a9 ∧ (gK (G) a9 = 9) ∧ ∃ a11, v7 = some a11 ∧ (gK (G) a11 = 105) ∧ (0 ≤ fI G 106 a9 ∧ fI G 106 a9 < (gL (G) a11 : Int)) ∧ ∀ v13, fR G 13 t = v13 → ∃ a15, r1 = some a15 ∧ (gK (G) a15 = 9) ∧ ∃ a17, v13 = some a17 ∧ (gK (G) a17 = 105) ∧ (0 ≤ fI G 107 a15 ∧ fI G 107 a15 < (gL (G) a17 : Int)) ∧ ∀ v19, fR G 19 t = v19 → ∃ a21, v19 = some a21 ∧ (KA (gK (G) a21) 0) ∧ (0 ≤ x2 ∧ x2 < (gL (G) a21 : Int)) ∧ ∃ a23, v19 = some a23 ∧ (gK (G) a23 = 100) ∧ (0 ≤ x2 ∧ x2 < (gL (G) a23 : Int)) ∧ Q (.inl none) (setA (setQ (setQ (setQ (G) a5 (Int.toNat (fI G 105 a3)) none) a11 (Int.toNat (fI G 106 a9)) none) a17 (Int.toNat (fI G 107 a15)) none) a23 (Int.toNat x2) (aI G a21 (Int.toNat x2) + 1))
theorem end_tail {c acct : Nat} (V : Inv S) (R : Rep Z G e b S S) (hc : c < (S 0 47).toNat) (h51 : S 51 c = -1) (hk : acct < 13) (q : ∀ G', OpR Z e b 0 0 G G' (addAcc (delRow S c) acct 1) → WL G' b = WL G b → (∀ x : Nat, x < (S 0 47).toNat - 1 → callA G' b (addAcc (delRow S c) acct 1) x = callA G b S (shf c x)) → Q (.inl none) G') : EndF G e (some (callA G b S c)) (acct : Int) Q := by
  have C := R.co hc
  have k12 := R.1.2.2.2.2.2.1.1
  have k13 := R.1.2.2.2.2.2.1.2.1
  have k19 := R.1.2.2.2.2.2.1.2.2.2.2.2.2.2.1
  have kb1 := R.1.2.2.2.2.2.2.2.1
  have lb1 := R.1.2.2.2.2.2.2.2.2.1
  have kb8 := R.1.2.2.2.2.2.2.2.2.2.2.2.2.2.2.2.1
  have lb8 := R.1.2.2.2.2.2.2.2.2.2.2.2.2.2.2.2.2.1
  have kb10 := R.1.2.2.2.2.2.2.2.2.2.2.2.2.2.2.2.2.2.2
  have lb10 := R.2.1.2.2.2.2.2.2.2.2.1
  have rc := V.row hc
  have r5 := V.2.2.2.2.2.1 c hc
  have s36 := sub36 V.1
  obtain ⟨R1, m1, cA1⟩ := xr_del V R hc h51
  have f105 : fI G 105 (callA G b S c) = S 48 c := C.2.2.2.1
  have f106 : fI G 106 (callA G b S c) = S 49 c := C.2.2.2.2.1
  have f107 : fI G 107 (callA G b S c) = S 50 c := C.2.2.2.2.2.1
  refine ⟨R.k, fun v1 hv1 => ⟨_, rfl, C.1, b + 1, hv1.symm.trans k12, kb1, by rw [f105, lb1]; have := rc.1; omega, fun v7 hv7 => ⟨_, rfl, C.1, b + 10, hv7.symm.trans k13, kb10, by rw [f106, lb10]; have := rc.2.1; omega, fun v13 hv13 => ⟨_, rfl, C.1, b + 10, hv13.symm.trans k13, kb10, by rw [f107, lb10]; have := rc.2.2.1; omega, fun v19 hv19 => ⟨b + 8, hv19.symm.trans k19, Or.inl kb8, by rw [lb8]; omega, b + 8, hv19.symm.trans k19, kb8, by rw [lb8]; omega, ?_⟩⟩⟩⟩⟩
  rw [f105, f106, f107, Int.toNat_natCast]
  obtain ⟨R2, m2⟩ := xr_acc (k := acct) (v := delRow S c 65 acct + 1) R1 hk
  have a8 : aI G (b + 8) acct = delRow S c 65 acct := (R.2.1.2.2.2.2.2.2.2.2.2 acct hk).trans (delRow_off (by decide)).symm
  rw [a8]
  have w1 := WL.md1 R.2.2.2.2.2.2.2 m1 (fun x hx ho z => by
    rcases ho with ho | ho
    · have := R.1.2.2.1; omega
    · obtain ⟨o1, o2, -⟩ := R.1.own (j := 7) (by decide) ho
      rcases z with z | z
      · exact o2 1 (by decide) (by decide) z
      · exact o2 10 (by decide) (by decide) z)
  have w2 := WL.md1 R1.2.2.2.2.2.2.2 m2 (fun x hx ho z => by
    rcases ho with ho | ho
    · have := R.1.2.2.1; omega
    · exact (R1.1.own (j := 7) (by decide) ho).2.1 8 (by decide) (by decide) z)
  have cg1 : CgE e b G _ := m1.mono (fun x hx h => by
    rcases h with h | h
    · rw [h]; exact (R.1.part 1 (by decide) (by decide)).1
    · rw [h]; exact (R.1.part 10 (by decide) (by decide)).1)
  have cg2 : CgE e b _ _ := m2.mono (fun x hx h => by rw [h]; exact (R1.1.part 8 (by decide) (by decide)).1)
  refine q _ ⟨⟨cg1.trans cg2, Rm.same rfl (Nat.le_refl _) (Nat.le_refl _), ?_⟩, fun x hx => by rw [w2, w1] at hx; exact hx⟩ (w2.trans w1) (fun x hx => (callA_eq (funext fun y => acc_ne (by decide)) x).trans ((callA_md1 R1.1 m2 (by omega) x).trans (cA1 x hx)))
  exact R2
theorem up_lifted {c : Nat} (V : Inv S) (hc : c < (S 0 47).toNat) : Inv (up2 S 51 c (-1)) := by
  have : up2 S 51 c (-1) = lifted S (fun x => decide (x = c)) := by
    funext f x
    unfold lifted
    by_cases h : f = 51 ∧ x = c
    · obtain ⟨rfl, rfl⟩ := h
      rw [up2_at, if_pos ⟨rfl, hc, decide_eq_true rfl⟩]
    · rw [up2_ne (if hf : f = 51 then Or.inr (fun hx => h ⟨hf, hx⟩) else Or.inl hf), if_neg (fun z => h ⟨z.1, of_decide_eq_true z.2.2⟩)]
  rw [this]
  exact V.lift _
theorem del_up {c acct : Nat} (hN : 0 ≤ S 0 47) (hc : c < (S 0 47).toNat) : (∀ k, addAcc (delRow S c) acct 1 0 k = addAcc (delRow (up2 S 51 c (-1)) c) acct 1 0 k) ∧ (∀ f x : Nat, 48 ≤ f → f ≤ 54 → x < (addAcc (delRow (up2 S 51 c (-1)) c) acct 1 0 47).toNat → addAcc (delRow S c) acct 1 f x = addAcc (delRow (up2 S 51 c (-1)) c) acct 1 f x) ∧ ∀ f x, 55 ≤ f → addAcc (delRow S c) acct 1 f x = addAcc (delRow (up2 S 51 c (-1)) c) acct 1 f x := by
  have u0 : ∀ k, up2 S 51 c (-1) 0 k = S 0 k := fun k => up2_ne (Or.inl (by decide))
  refine ⟨fun k => ?_, fun f x h1 h2 hx => ?_, fun f x h1 => ?_⟩
  · rw [acc_0, acc_0]
    by_cases hk : k = 47
    · rw [hk, delRow_47, delRow_47, u0]
    · rw [delRow_0 hk, delRow_0 hk, u0]
  · rw [acc_0, delRow_47, u0] at hx
    rw [acc_ne (by omega), acc_ne (by omega), delRow_row h1 h2 (by omega), delRow_row h1 h2 (by rw [u0]; omega)]
    exact (up2_ne (Or.inr (by unfold shf; split <;> omega))).symm
  · by_cases h65 : f = 65
    · subst h65
      by_cases hx : x = acct
      · rw [hx, acc_at, acc_at, delRow_off (by decide), delRow_off (by decide), up2_ne (Or.inl (by decide))]
      · rw [acc_65 hx, acc_65 hx, delRow_off (by decide), delRow_off (by decide), up2_ne (Or.inl (by decide))]
    · rw [acc_ne h65, acc_ne h65, delRow_off h1, delRow_off h1, up2_ne (Or.inl (by omega))]
/-- a call ends -/
theorem xc_endA {c acct : Nat} (V : Inv S) (R : Rep Z G e b S S) (hc : c < (S 0 47).toNat) (hk : acct < 13) (q : ∀ G', OpR Z e b 0 0 G G' (addAcc (delRow S c) acct 1) → WL G' b = WL G b → (∀ x : Nat, x < (S 0 47).toNat - 1 → callA G' b (addAcc (delRow S c) acct 1) x = callA G b S (shf c x)) → Q (.inl none) G') : TC Z (d + 7) mi_X2_end [tR (some e), tR (some (callA G b S c)), tI (acct : Int)] G Q := by
  have C := R.co hc
  have rc := V.row hc
  have r47 := V.r47
  have f110 : fI G 110 (callA G b S c) = S 51 c := C.2.2.2.2.2.2.2.2.1
  refine c_X2_end ⟨_, rfl, C.1, by rw [f110]; have := rc.2.2.2.1; omega, fun h => ?_, fun h => ⟨R.k, ?_⟩⟩
  · exact end_tail V R hc (f110.symm.trans h) hk q
  · rw [f110] at h
    obtain ⟨m, hm⟩ : ∃ m : Nat, S 51 c = (m : Int) := ⟨(S 51 c).toNat, by have := rc.2.2.2.1; omega⟩
    have m8 : m ≤ 8 := by have := rc.2.2.2.1; omega
    have hA : ∀ x, x = callA G b S c → gP G x = e ∧ gK G x = 9 := fun x hx => by rw [hx]; exact ⟨C.2.1, C.1⟩
    refine xc_lift R V.rw SameR.rf V.2.1 hc m8 hm hm (fun G1 m1 n1 s1 c1 R1 => r_X2_end_13 ?_)
    have V1 := up_lifted V hc
    have hc1 : c < (up2 S 51 c (-1) 0 47).toNat := by rw [up2_ne (Or.inl (by decide))]; exact hc
    obtain ⟨sh1, sc1, tl1, cA1, cg1, fp1, co1⟩ := R.pl m1 hA
    have w1 := WL.md1 R.2.2.2.2.2.2.2 m1 ((PL.no R.1 hA).2.2.1 7 (by decide) (by decide))
    have eA : callA G1 b (up2 S 51 c (-1)) c = callA G b S c := (callA_eq (funext fun x => up2_ne (Or.inl (by decide))) c).trans (cA1 c)
    have et := end_tail V1 R1 hc1 up2_at hk (Q := Q) (fun G2 o w cA2 => by
      obtain ⟨d1, d2, d3⟩ := del_up (acct := acct) r47.1 hc
      refine q G2 ⟨⟨cg1.trans o.1.1, ?_, o.1.2.2.rows d1 d2 d3⟩, fun x hx => by rw [w, w1] at hx; exact hx⟩ (w.trans w1) (fun x hx => ?_)
      rotate_left
      · have u0 : up2 S 51 c (-1) 0 47 = S 0 47 := up2_ne (Or.inl (by decide))
        have e48 : addAcc (delRow S c) acct 1 48 x = addAcc (delRow (up2 S 51 c (-1)) c) acct 1 48 x := d2 48 x (by decide) (by decide) (by rw [acc_0, delRow_47, u0]; omega)
        have e1 : callA G2 b (addAcc (delRow S c) acct 1) x = callA G2 b (addAcc (delRow (up2 S 51 c (-1)) c) acct 1) x := by unfold callA; rw [e48]
        rw [e1, cA2 x (by rw [u0]; exact hx), callA_eq (funext fun y => up2_ne (Or.inl (by decide))), cA1]
      have := (Rm.same (n := 0) (s := 0) c1 (by omega) (by omega)).trans o.1.2.1
      exact this)
    rw [eA] at et
    exact et
theorem xc_end {c acct : Nat} (V : Inv S) (R : Rep Z G e b S S) (hc : c < (S 0 47).toNat) (hk : acct < 13) (q : ∀ G', OpR Z e b 0 0 G G' (addAcc (delRow S c) acct 1) → WL G' b = WL G b → Q (.inl none) G') : TC Z (d + 7) mi_X2_end [tR (some e), tR (some (callA G b S c)), tI (acct : Int)] G Q :=
  xc_endA V R hc hk (fun G' o w _ => q G' o w)
end END2
