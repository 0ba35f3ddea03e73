/-! THE EXCHANGE, 21: the tick -/
section TICK2
variable {Z : ZT} {d : Nat} {G : GH} {Q : TR → GH → Prop} {e b : Nat} {S S' T T' : St}
/-- the row at the pointer goes -/
theorem PtrI.del {k c acct : Nat} (V : Inv S) (h : PtrI S k c) (hc : c < (S 0 47).toNat) (hk : S 48 c = (k : Int)) : PtrI (addAcc (delRow S c) acct 1) (k + 1) c := by
  have r47 := V.r47
  have n := h.hit V hc hk
  have hN : (addAcc (delRow S c) acct 1 0 47).toNat = (S 0 47).toNat - 1 := by rw [acc_0, delRow_47]; omega
  have row : ∀ x, x < (S 0 47).toNat - 1 → addAcc (delRow S c) acct 1 48 x = S 48 (shf c x) := fun x hx => by
    rw [acc_ne (by decide), delRow_row (by decide) (by decide) (by omega)]
  obtain ⟨n1, n2, n3⟩ := n
  refine ⟨by omega, fun x hx => ?_, fun x h1 h2 => ?_⟩
  · rw [row x (by omega), show shf c x = x from if_pos hx]
    exact n2 x (by omega)
  · rw [hN] at h2
    rw [row x h2, show shf c x = x + 1 from if_neg (by omega)]
    exact n3 (x + 1) (by omega) (by omega)
/-- the calls whose time is over -/
theorem xc_ends (V : Inv S) (R : Rep Z G e b S S) (q : ∀ G', OpR Z e b 0 0 G G' (endsL (S 0 47).toNat 0 0 S).2 → Q (.inl (some (tI (endsL (S 0 47).toNat 0 0 S).1))) G') : TC Z (d + 8) mi_X2_ends [tR (some e)] G Q := by
  have r46 := V.r46
  have r47 := V.r47
  have loop : ∀ (r k c : Nat) (cnt : Int) (S1 : St) (G1 : GH) (o3 : Option Value), k + r = (S 0 46).toNat → Inv S1 → S1 0 46 = S 0 46 → PtrI S1 k c → OpR Z e b 0 0 G G1 S1 → endsL ((S1 0 47).toNat - c) c cnt S1 = endsL (S 0 47).toNat 0 0 S →
      TW Z mi_X2_ends (d + 8) 4 [some (tR (some e)), some (tI cnt), some (tI (k : Int)), o3] [] G1 Q := by
    intro r
    induction r with
    | zero =>
      intro k c cnt S1 G1 o3 hk V1 e46 P o hf
      have R1 := o.1.2.2
      have pe := P.end V1 (by omega)
      rw [pe, Nat.sub_self] at hf
      have hf : (cnt, S1) = endsL (S 0 47).toNat 0 0 S := hf
      rw [← hf] at q
      exact r_X2_ends_4 ⟨R1.k, by omega, by rw [R1.f46]; omega, fun _ => q G1 o, fun hn => by rw [R1.f46] at hn; omega⟩
    | succ r ih =>
      intro k c cnt S1 G1 o3 hk V1 e46 P o hf
      have R1 := o.1.2.2
      have r47' := V1.r47
      have k12 := R1.1.2.2.2.2.2.1.1
      have kb1 := R1.1.2.2.2.2.2.2.2.1
      have lb1 := R1.1.2.2.2.2.2.2.2.2.1
      refine r_X2_ends_4 ⟨R1.k, by omega, by rw [R1.f46]; omega, fun hn => by rw [R1.f46] at hn; omega, fun _ v2 hv2 => ⟨b + 1, hv2.symm.trans k12, Or.inl kb1, by rw [lb1]; omega, fun v6 hv6 => ?_⟩⟩
      rw [Int.toNat_natCast, R1.at V1 P (by omega)] at hv6
      by_cases hh : c < (S1 0 47).toNat ∧ S1 48 c = (k : Int)
      · rw [if_pos hh] at hv6
        obtain ⟨hc, h48⟩ := hh
        refine ⟨fun hn => (by rw [← hv6] at hn; cases hn), fun a8 ha8 => ?_⟩
        have ea : a8 = callA G1 b S1 c := by rw [← hv6] at ha8; cases ha8; rfl
        subst ea
        have C := R1.co hc
        have rc := V1.row hc
        have r44 := V1.1.1.2.2.2.2.2.2.1
        have f109 : fI G1 109 (callA G1 b S1 c) = S1 53 c := C.2.2.2.2.2.2.2.1
        have f108 : fI G1 108 (callA G1 b S1 c) = S1 52 c := C.2.2.2.2.2.2.1
        have ef : (S1 0 47).toNat - c = ((S1 0 47).toNat - (c + 1)) + 1 := by omega
        rw [ef, endsL] at hf
        have skip : dueB S1 c = false → TW Z mi_X2_ends (d + 8) 53 [some (tR (some e)), some (tI cnt), some (tI (k : Int)), some (tR (some (callA G1 b S1 c)))] [] G1 Q := fun hd => by
          rw [hd, if_neg (by decide)] at hf
          exact r_X2_ends_53 (ih (k + 1) (c + 1) cnt S1 G1 _ (by omega) V1 e46 (P.hit V1 hc h48) o hf)
        refine ⟨C.1, by rw [f109]; have := rc.2.2.2.2.2; omega, fun h0 => ?_, fun h0 => ?_⟩
        · rw [f109] at h0
          exact skip (by unfold dueB; exact decide_eq_false (fun z => by omega))
        · rw [f109] at h0
          refine c_X9_end ⟨C.1, r_X2_ends_34 ⟨R1.k, ?_, ?_, fun hd => ?_, fun hd => ?_⟩⟩
          · rw [f108, f109]; have := rc.2.2.2.2; omega
          · rw [R1.f44]; omega
          · rw [f108, f109, R1.f44] at hd
            have due : dueB S1 c = true := by unfold dueB; have := rc.2.2.2.2.2; exact decide_eq_true ⟨by omega, hd⟩
            rw [due, if_pos rfl] at hf
            refine xc_end (d := d) (acct := 0) V1 R1 hc (by decide) (fun G2 o2 _ => r_X2_ends_50 (r_X2_ends_53 (ih (k + 1) c (cnt + 1) _ G2 _ (by omega) ((V1.del hc).acc 0 1) ?_ (P.del V1 hc h48) (o.trans o2) ?_)))
            · rw [acc_0, delRow_0 (by decide)]; exact e46
            · rw [show (addAcc (delRow S1 c) 0 1 0 47).toNat - c = (S1 0 47).toNat - (c + 1) by rw [acc_0, delRow_47]; omega]
              exact hf
          · rw [f108, f109, R1.f44] at hd
            exact skip (by unfold dueB; exact decide_eq_false (fun z => hd z.2))
      · rw [if_neg hh] at hv6
        refine ⟨fun _ => r_X2_ends_53 (ih (k + 1) c cnt S1 G1 _ (by omega) V1 e46 (P.miss V1 hh) o hf), fun a8 ha8 => by rw [← hv6] at ha8; cases ha8⟩
  exact c_X2_ends (loop (S 0 46).toNat 0 0 0 S G none (by omega) V rfl (PtrI.zero V) (OpR.rf R) (by rw [Nat.sub_zero]))
theorem ends_55 : ∀ (r c : Nat) (x : Int) (S : St), (endsL r c x S).2 0 55 = S 0 55 := by
  intro r
  induction r with
  | zero => intro c x S; rfl
  | succ r ih =>
    intro c x S
    rw [endsL]
    split
    · rw [ih, acc_0, delRow_0 (by decide)]
    · exact ih _ _ _
theorem Inv.ends : ∀ (r c : Nat) (x : Int) (S : St), Inv S → c + r = (S 0 47).toNat → Inv (endsL r c x S).2 := by
  intro r
  induction r with
  | zero => intro c x S V _; exact V
  | succ r ih =>
    intro c x S V h
    have r47 := V.r47
    rw [endsL]
    split
    · exact ih _ _ _ ((V.del (by omega)).acc 0 1) (by rw [acc_0, delRow_47]; omega)
    · exact ih _ _ _ V (by omega)
/-- many ticks -/
theorem xc_ticks {n : Nat} (V : Ok S) (R : Rep Z G e b S S) (E : EnvE Z G) (hn : n ≤ 200) (h44 : S 0 44 + n ≤ 100000)
    (q : ∀ G', OpR Z e b (1017 * (S 0 55 - (ticksL n 0 S).2 0 55).toNat) (5714 * (S 0 55 - (ticksL n 0 S).2 0 55).toNat) G G' (ticksL n 0 S).2 → (ticksL n 0 S).2 0 55 ≤ S 0 55 → Q (.inl (some (tI (ticksL n 0 S).1))) G') : TC Z (d + 14) mi_X2_ticks [tR (some e), tI (n : Int)] G Q := by
  have loop : ∀ (r k : Nat) (cnt : Int) (S1 : St) (G1 : GH), k + r = n → Ok S1 → EnvE Z G1 → S1 0 44 + r ≤ 100000 → S1 0 55 ≤ S 0 55 → OpR Z e b (1017 * (S 0 55 - S1 0 55).toNat) (5714 * (S 0 55 - S1 0 55).toNat) G G1 S1 → ticksL r cnt S1 = ticksL n 0 S →
      TW Z mi_X2_ticks (d + 14) 4 [some (tR (some e)), some (tI (n : Int)), some (tI cnt), some (tI (k : Int))] [] G1 Q := by
    intro r
    induction r with
    | zero =>
      intro k cnt S1 G1 hk V1 E1 h4 h5 o hf
      have hf : (cnt, S1) = ticksL n 0 S := hf
      rw [← hf] at q
      exact r_X2_ticks_4 ⟨by omega, by omega, fun _ => q G1 o h5, fun hn => by omega⟩
    | succ r ih =>
      intro k cnt S1 G1 hk V1 E1 h4 h5 o hf
      have R1 := o.1.2.2
      have r44 := V1.1.1.1.2.2.2.2.2.2.1
      have hf : ticksL r (cnt + (passes S1).1) (passes S1).2 = ticksL n 0 S := hf
      obtain ⟨p1, p2, p3⟩ := V1.pss (by omega)
      refine r_X2_ticks_4 ⟨by omega, by omega, fun hn => by omega, fun _ => ⟨R1.k, ?_⟩⟩
      rw [R1.f44]
      obtain ⟨oT, wT⟩ := op_int (f := 22) (k := 44) (v := S1 0 44 + 1) R1 (by decide)
      have VT := V1.1.tick (v := S1 0 44 + 1) (by omega)
      have ET := E1.op R1 oT
      have e47 : up2 S1 0 44 (S1 0 44 + 1) 0 47 = S1 0 47 := up2_ne (Or.inr (by decide))
      have e55 : up2 S1 0 44 (S1 0 44 + 1) 0 55 = S1 0 55 := up2_ne (Or.inr (by decide))
      refine xc_ends (d := d + 5) VT oT.1.2.2 (fun G2 o2 => r_X2_ticks_24 ?_)
      have V2 := Inv.ends _ 0 0 _ VT (Nat.zero_add _)
      have E2 := ET.op oT.1.2.2 o2
      have R2 := o2.1.2.2
      have b55 := ends_55 (up2 S1 0 44 (S1 0 44 + 1) 0 47).toNat 0 0 (up2 S1 0 44 (S1 0 44 + 1))
      have s5 := serve_55 _ 0 _ V2 (Nat.zero_add _)
      refine ⟨R2.k, xc_serve V2 R2 E2 (fun G3 o3 => r_X2_ticks_30 ?_)⟩
      rw [e47] at b55 o2 V2 o3 s5 R2
      have eP : (passes S1).2 = serves (endsL (S1 0 47).toNat 0 0 (up2 S1 0 44 (S1 0 44 + 1))).2 := rfl
      have eP1 : (passes S1).1 = (endsL (S1 0 47).toNat 0 0 (up2 S1 0 44 (S1 0 44 + 1))).1 := rfl
      rw [e55] at b55
      have s5' : 0 ≤ serves (endsL (S1 0 47).toNat 0 0 (up2 S1 0 44 (S1 0 44 + 1))).2 0 55 ∧ serves (endsL (S1 0 47).toNat 0 0 (up2 S1 0 44 (S1 0 44 + 1))).2 0 55 ≤ (endsL (S1 0 47).toNat 0 0 (up2 S1 0 44 (S1 0 44 + 1))).2 0 55 := s5
      rw [b55] at s5' o3
      have E3 := E2.op o2.1.2.2 o3
      have oo := ((oT.trans o2).trans o3)
      rw [← eP] at s5' oo
      have r := ih (k + 1) (cnt + (passes S1).1) (passes S1).2 G3 (by omega) p1 E3 (by rw [p2]; omega) (by omega) ((o.trans oo).mono (by omega) (by omega)) hf
      rw [eP1] at r
      rw [e47]
      exact r
  refine c_X2_ticks (loop n 0 0 S G (by omega) V E h44 (Int.le_refl _) ?_ rfl)
  exact (OpR.rf R).mono (Nat.zero_le _) (Nat.zero_le _)
end TICK2
