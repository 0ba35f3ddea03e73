/-! THE EXCHANGE, 3: hunting for a middle -/
section EXH
variable {Z : ZT} {d : Nat} {G : GH} {Q : TR → GH → Prop} {e b : Nat} {S T : St}
theorem Rep.f38 (R : Rep Z G e b S T) : fI G 9 e = S 0 38 := R.2.1.1
theorem Rep.f39 (R : Rep Z G e b S T) : fI G 10 e = S 0 39 := R.2.1.2.1
theorem Rep.f40 (R : Rep Z G e b S T) : fI G 11 e = S 0 40 := R.2.1.2.2.1
theorem Rep.f46 (R : Rep Z G e b S T) : fI G 21 e = S 0 46 := R.2.1.2.2.2.1
theorem Rep.f44 (R : Rep Z G e b S T) : fI G 22 e = S 0 44 := R.2.1.2.2.2.2.1
theorem Rep.f42 (R : Rep Z G e b S T) : fI G 23 e = S 0 42 := R.2.1.2.2.2.2.2.1
theorem Rep.f43 (R : Rep Z G e b S T) : fI G 24 e = S 0 43 := R.2.1.2.2.2.2.2.2.1
theorem Rep.f45 (R : Rep Z G e b S T) : fI G 25 e = S 0 45 := R.2.1.2.2.2.2.2.2.2.1
theorem xc_carriedF {m i : Nat} (R : Rep Z G e b S S) (hm : m ≤ 8) (hi : i ≤ 5) (q : ∀ G', Qk b G G' → Q (.inl (some (tR (if carriedAt S (m : Int) (i : Int) false = -1 then none else some (callA G b S (carriedAt S (m : Int) (i : Int) false).toNat))))) G') : TC Z (d + 6) mi_X2_carriedBy [tR (some e), tI (m : Int), tI (i : Int), tI 0] G Q :=
  xc_carriedBy (t := false) R hm hi q (fun _ hx => cA_lt SameR.rf hx)
theorem xc_carriedT {m i : Nat} (R : Rep Z G e b S S) (hm : m ≤ 8) (hi : i ≤ 5) (q : ∀ G', Qk b G G' → Q (.inl (some (tR (if carriedAt S (m : Int) (i : Int) true = -1 then none else some (callA G b S (carriedAt S (m : Int) (i : Int) true).toNat))))) G') : TC Z (d + 6) mi_X2_carriedBy [tR (some e), tI (m : Int), tI (i : Int), tI 1] G Q :=
  xc_carriedBy (t := true) R hm hi q (fun _ hx => cA_lt SameR.rf hx)
theorem xc_load {m : Nat} (V : Inv S) (R : Rep Z G e b S S) (hm : m ≤ 8) (q : ∀ G', Qk b G G' → Q (.inl (some (tI (loadOf S (m : Int))))) G') : TC Z (d + 7) mi_X2_load [tR (some e), tI (m : Int)] G Q := by
  have r38 := V.r38
  have le := load_eq V (m := (m : Int)) (by omega)
  have ll := load_le V (m := (m : Int)) (by omega)
  have loop : ∀ (r k : Nat) (acc : Int) (G1 : GH), Qk b G G1 → k + r = (S 0 38).toNat → 0 ≤ acc → acc ≤ k → acc + sumI (fun i => b2i (decide (carriedAt S (m : Int) (i : Int) false ≠ -1))) r k = loadOf S (m : Int) → TW Z mi_X2_load (d + 7) 4 [some (tR (some e)), some (tI (m : Int)), some (tI acc), some (tI (k : Int))] [] G1 Q := by
    intro r
    induction r with
    | zero =>
      intro k acc G1 K hk a0 a1 ha
      have R1 := R.qk K
      refine r_X2_load_4 ⟨R1.k, by omega, by rw [R1.f38]; omega, fun _ => ?_, fun hn => by rw [R1.f38] at hn; omega⟩
      have : acc = loadOf S (m : Int) := by rw [← ha]; show acc = acc + 0; omega
      rw [this]
      exact q G1 K
    | succ r ih =>
      intro k acc G1 K hk a0 a1 ha
      have R1 := R.qk K
      refine r_X2_load_4 ⟨R1.k, by omega, by rw [R1.f38]; omega, fun hn => by rw [R1.f38] at hn; omega, fun _ => xc_carriedF R1 hm (by omega) (fun G2 K2 => r_X2_load_19 ⟨fun hn => ?_, fun a1' ha1 => ?_⟩)⟩
      · by_cases hz : carriedAt S (m : Int) (k : Int) false = -1
        · refine ih (k + 1) acc G2 (K.trans K2) (by omega) a0 (by omega) ?_
          rw [← ha]
          show acc + _ = acc + (b2i (decide (carriedAt S (m : Int) (k : Int) false ≠ -1)) + _)
          rw [decide_eq_false (fun h => h hz)]
          show acc + _ = acc + (0 + _)
          omega
        · rw [if_neg hz] at hn; cases hn
      · by_cases hz : carriedAt S (m : Int) (k : Int) false = -1
        · rw [if_pos hz] at ha1; cases ha1
        · refine ih (k + 1) (acc + 1) G2 (K.trans K2) (by omega) (by omega) (by omega) ?_
          rw [← ha]
          show acc + 1 + _ = acc + (b2i (decide (carriedAt S (m : Int) (k : Int) false ≠ -1)) + _)
          rw [decide_eq_true hz]
          show acc + 1 + _ = acc + (1 + _)
          omega
  exact c_X2_load (loop (S 0 38).toNat 0 0 G Qk.rf (by omega) (by omega) (by omega) (by rw [← le]; omega))
theorem xc_isOpen {m i j : Nat} (R : Rep Z G e b S S) (hm : m ≤ 8) (hi : i ≤ 5) (hj : j ≤ 5) (q : ∀ G', Qk b G G' → Q (.inl (some (tI (b2i (decide (carriedAt S (m : Int) (i : Int) false = -1) && decide (carriedAt S (m : Int) (j : Int) true = -1)))))) G') : TC Z (d + 7) mi_X2_isOpen [tR (some e), tI (m : Int), tI (i : Int), tI (j : Int)] G Q := by
  refine c_X2_isOpen ⟨R.k, xc_carriedF R hm hi (fun G1 K1 => r_X2_isOpen_7 ⟨fun hn => ⟨(R.qk K1).k, xc_carriedT (R.qk K1) hm hj (fun G2 K2 => r_X2_isOpen_17 ⟨fun hn2 => ?_, fun a2 ha2 => ?_⟩)⟩, fun a1 ha1 => ?_⟩)⟩
  · have h1 : carriedAt S (m : Int) (i : Int) false = -1 := by
      by_cases hz : carriedAt S (m : Int) (i : Int) false = -1
      · exact hz
      · rw [if_neg hz] at hn; cases hn
    have h2 : carriedAt S (m : Int) (j : Int) true = -1 := by
      by_cases hz : carriedAt S (m : Int) (j : Int) true = -1
      · exact hz
      · rw [if_neg hz] at hn2; cases hn2
    have := q G2 (K1.trans K2)
    rw [decide_eq_true h1, decide_eq_true h2] at this
    exact this
  · have h2 : ¬ carriedAt S (m : Int) (j : Int) true = -1 := fun hz => by rw [if_pos hz] at ha2; cases ha2
    have := q G2 (K1.trans K2)
    rw [decide_eq_false h2, Bool.and_false] at this
    exact this
  · have h1 : ¬ carriedAt S (m : Int) (i : Int) false = -1 := fun hz => by rw [if_pos hz] at ha1; cases ha1
    have := q G1 K1
    rw [decide_eq_false h1, Bool.false_and] at this
    exact this
theorem bit_or {w k m : Nat} : (w ||| 2 ^ k).testBit m = (w.testBit m || decide (k = m)) := by
  rw [Nat.testBit_or, Nat.testBit_two_pow]
theorem or_lt {w k : Nat} (hw : w < 512) (hk : k < 9) : w ||| 2 ^ k < 512 := by
  have : 2 ^ k < 2 ^ 9 := Nat.pow_lt_pow_right (by decide) hk
  exact Nat.or_lt_two_pow (n := 9) hw this
/-- the set of the middles in order -/
theorem xc_usable (V : Inv S) (R : Rep Z G e b S T) (hE : EnvI Z G) (q : ∀ w, SetIs S w (S 0 40) → Q (.inl (some (tI w))) G) : TC Z (d + 9) mi_X2_usable [tR (some e)] G Q := by
  have r40 := V.r40
  have loop : ∀ (r k w : Nat), k + r = (S 0 40).toNat → w < 512 → (∀ m : Nat, w.testBit m = (decide (m < k) && !isCutB S (m : Int))) → TW Z mi_X2_usable (d + 9) 4 [some (tR (some e)), some (tI (w : Int)), some (tI (k : Int))] [] G Q := by
    intro r
    induction r with
    | zero =>
      intro k w hk hw hb
      refine r_X2_usable_4 ⟨R.k, by omega, by rw [R.f40]; omega, fun _ => q _ (set_of r40 hw (fun m hm => ?_)), fun hn => by rw [R.f40] at hn; omega⟩
      rw [hb m, there_all hm, decide_eq_true (by omega), Bool.true_and]
    | succ r ih =>
      intro k w hk hw hb
      refine r_X2_usable_4 ⟨R.k, by omega, by rw [R.f40]; omega, fun hn => by rw [R.f40] at hn; omega, fun _ => xc_isInOrder V R hE (by omega) (r_X2_usable_17 ?_)⟩
      cases hc : isCutB S (k : Int)
      · refine ⟨by decide, fun hn => absurd hn (by decide), fun _ => ?_⟩
        have e := or_nat ⟨k, by omega⟩ ⟨w, hw⟩
        dsimp only at e
        rw [e]
        refine ih (k + 1) (w ||| 2 ^ k) (by omega) (or_lt hw (by omega)) (fun m => ?_)
        rw [bit_or, hb m]
        by_cases hm : k = m
        · subst hm
          rw [hc]
          simp
        · rw [decide_eq_false hm, Bool.or_false]
          congr 1
          exact decide_eq_decide.mpr (by omega)
      · refine ⟨by decide, fun _ => ih (k + 1) w (by omega) hw (fun m => ?_), fun hn => absurd rfl hn⟩
        rw [hb m]
        by_cases hm : k = m
        · subst hm
          rw [hc]
          simp
        · congr 1
          exact decide_eq_decide.mpr (by omega)
  exact c_X2_usable (loop (S 0 40).toNat 0 0 (by omega) (by decide) (fun m => by simp))
theorem sum_mono {f : Nat → Int} (hf : ∀ k, 0 ≤ f k) : ∀ (r k : Nat), sumI f k 0 ≤ sumI f (k + r) 0 := by
  intro r
  induction r with
  | zero => intro k; exact Int.le_refl _
  | succ r ih =>
    intro k
    have := ih k
    rw [show k + (r + 1) = (k + r) + 1 by omega, sumI_snoc]
    have := hf (0 + (k + r))
    omega
theorem b2i_01 (x : Bool) : 0 ≤ b2i x ∧ b2i x ≤ 1 := by cases x <;> decide
theorem there_not {low : Int} {k m : Nat} (h : low ≤ sumI (fun k : Nat => b2i (!isCutB S (k : Int))) k 0) (hm : k ≤ m) : isThereB S (m : Int) low = false := by
  have := sum_mono (f := fun k : Nat => b2i (!isCutB S (k : Int))) (fun k => (b2i_01 _).1) (m - k) k
  rw [show k + (m - k) = m by omega] at this
  unfold isThereB
  rw [Int.toNat_natCast, decide_eq_false (by omega), Bool.and_false]
/-- the lowest middles in order, so many -/
theorem xc_lowest {many : Int} (V : Inv S) (R : Rep Z G e b S T) (hE : EnvI Z G) (hm0 : 0 ≤ many ∧ many ≤ 9) (q : ∀ w, SetIs S w many → Q (.inl (some (tI w))) G) : TC Z (d + 9) mi_X2_lowest [tR (some e), tI many] G Q := by
  have r40 := V.r40
  have loop : ∀ (r k w : Nat) (left : Int), k + r = (S 0 40).toNat → w < 512 → (∀ m : Nat, w.testBit m = (decide (m < k) && isThereB S (m : Int) many)) → left = many - sumI (fun k : Nat => b2i (!isCutB S (k : Int))) k 0 → 0 ≤ left → TW Z mi_X2_lowest (d + 9) 7 [some (tR (some e)), some (tI many), some (tI (w : Int)), some (tI left), some (tI (k : Int))] [] G Q := by
    intro r
    induction r with
    | zero =>
      intro k w left hk hw hb hl h0
      refine r_X2_lowest_7 ⟨R.k, by omega, by rw [R.f40]; omega, fun _ => q _ (set_of r40 hw (fun m hm => ?_)), fun hn => by rw [R.f40] at hn; omega⟩
      rw [hb m, decide_eq_true (by omega), Bool.true_and]
    | succ r ih =>
      intro k w left hk hw hb hl h0
      have hs := sum_mono (f := fun k : Nat => b2i (!isCutB S (k : Int))) (fun k => (b2i_01 _).1) k 0
      have hs0 : sumI (fun k : Nat => b2i (!isCutB S (k : Int))) 0 0 = 0 := rfl
      rw [Nat.zero_add] at hs
      have sn := sumI_snoc (f := fun k : Nat => b2i (!isCutB S (k : Int))) k 0
      rw [Nat.zero_add] at sn
      refine r_X2_lowest_7 ⟨R.k, by omega, by rw [R.f40]; omega, fun hn => by rw [R.f40] at hn; omega, fun _ => ⟨by omega, fun hle => q _ (set_of r40 hw (fun m hm => ?_)), fun hgt => xc_isInOrder V R hE (by omega) (r_X2_lowest_26 ?_)⟩⟩
      · rw [hb m]
        by_cases hmk : m < k
        · rw [decide_eq_true hmk, Bool.true_and]
        · rw [decide_eq_false hmk, there_not (k := k) (by omega) (by omega), Bool.false_and]
      · have ht : isThereB S (k : Int) many = !isCutB S (k : Int) := by
          unfold isThereB
          rw [Int.toNat_natCast, decide_eq_true (by omega), Bool.and_true]
        cases hc : isCutB S (k : Int)
        · rw [hc] at sn ht
          refine ⟨by decide, fun _ => ?_, fun hn => absurd hn (by decide)⟩
          have e := or_nat ⟨k, by omega⟩ ⟨w, hw⟩
          dsimp only at e
          rw [e]
          have sn' : sumI (fun k : Nat => b2i (!isCutB S (k : Int))) (k + 1) 0 = sumI (fun k : Nat => b2i (!isCutB S (k : Int))) k 0 + 1 := sn
          refine ih (k + 1) (w ||| 2 ^ k) (left + -1) (by omega) (or_lt hw (by omega)) (fun m => ?_) (by omega) (by omega)
          rw [bit_or, hb m]
          by_cases hm : k = m
          · subst hm
            rw [ht]
            simp
          · rw [decide_eq_false hm, Bool.or_false]
            congr 1
            exact decide_eq_decide.mpr (by omega)
        · rw [hc] at sn ht
          have sn' : sumI (fun k : Nat => b2i (!isCutB S (k : Int))) (k + 1) 0 = sumI (fun k : Nat => b2i (!isCutB S (k : Int))) k 0 + 0 := sn
          refine ⟨by decide, fun hn => absurd rfl hn, fun _ => ih (k + 1) w left (by omega) hw (fun m => ?_) (by omega) h0⟩
          rw [hb m]
          by_cases hm : k = m
          · subst hm
            rw [ht]
            simp
          · congr 1
            exact decide_eq_decide.mpr (by omega)
  exact c_X2_lowest (loop (S 0 40).toNat 0 0 many (by omega) (by decide) (fun m => by simp) (by show many = many - 0; omega) hm0.1)
theorem huntL_stay {i j rule low : Int} (hr : rule ≠ 1) : ∀ (r k : Nat) (best : Int), best ≠ -1 → huntL S i j rule low r k best = best := by
  intro r
  induction r with
  | zero => intro k best _; rfl
  | succ r ih =>
    intro k best hb
    unfold huntL
    rw [decide_eq_false hb, decide_eq_false hr, Bool.false_and, Bool.or_false, Bool.and_false, if_neg (by decide)]
    exact ih _ _ hb
theorem huntM_nat (V : Inv S) {rule : Int} {n : Nat} (hn : (n : Int) < S 0 40) : ∃ m : Nat, huntM S rule n = (m : Int) ∧ (m : Int) < S 0 40 := by
  have r40 := V.r40
  have r45 : 0 ≤ S 0 45 := V.1.1.2.2.2.2.2.2.2.1.1
  unfold huntM
  split
  · have h1 := Int.emod_nonneg (S 0 45 + 1 + (n : Int)) (show S 0 40 ≠ 0 by omega)
    have h2 := Int.emod_lt_of_pos (S 0 45 + 1 + (n : Int)) (show 0 < S 0 40 by omega)
    rw [Int.tmod_eq_emod_of_nonneg (by omega)]
    exact ⟨((S 0 45 + 1 + (n : Int)) % S 0 40).toNat, by omega, by omega⟩
  · exact ⟨n, rfl, hn⟩
/-- the middle that is hunted for -/
theorem xc_hunted {i j : Nat} {w rule low : Int} (V : Inv S) (R : Rep Z G e b S S) (hi : i ≤ 5) (hj : j ≤ 5) (hw : SetIs S w low) (hr : 0 ≤ rule ∧ rule ≤ 2) (q : ∀ G', Qk b G G' → Q (.inl (some (tI (hunted S (i : Int) (j : Int) rule low)))) G') : TC Z (d + 8) mi_X2_hunted [tR (some e), tI (i : Int), tI (j : Int), tI w, tI rule] G Q := by
  have r40 := V.r40
  have r45 : 0 ≤ S 0 45 ∧ S 0 45 ≤ 8 := V.1.1.2.2.2.2.2.2.2.1
  have ww := hw.1
  have loop : ∀ (r n : Nat) (best : Int) (G1 : GH) (o7 : Option Value), Qk b G G1 → n + r = (S 0 40).toNat → (best = -1 ∨ 0 ≤ best ∧ best < S 0 40) → (rule ≠ 1 → best = -1) → huntL S (i : Int) (j : Int) rule low r n best = hunted S (i : Int) (j : Int) rule low →
      TW Z mi_X2_hunted (d + 8) 6 [some (tR (some e)), some (tI (i : Int)), some (tI (j : Int)), some (tI w), some (tI rule), some (tI best), some (tI (n : Int)), o7] [] G1 Q := by
    intro r
    induction r with
    | zero =>
      intro n best G1 o7 K hn hb h1 hf
      have R1 := R.qk K
      refine r_X2_hunted_6 ⟨R1.k, by omega, by rw [R1.f40]; omega, fun _ => ?_, fun hn' => by rw [R1.f40] at hn'; omega⟩
      have := q G1 K
      rw [← hf] at this
      exact this
    | succ r ih =>
      intro n best G1 o7 K hn hb h1 hf
      have R1 := R.qk K
      obtain ⟨m, hm, hm9⟩ := huntM_nat V (rule := rule) (n := n) (by omega)
      have bit := hw.2 m hm9
      have st : huntL S (i : Int) (j : Int) rule low (r + 1) n best = huntL S (i : Int) (j : Int) rule low r (n + 1) (if (isOpenB S (m : Int) (i : Int) (j : Int) low && (decide (best = -1) || (decide (rule = 1) && decide (loadOf S best < loadOf S (m : Int))))) = true then (m : Int) else best) := by rw [huntL, hm]
      rw [st] at hf
      have ib : inR best := by omega
      -- not taken
      have nope : (isOpenB S (m : Int) (i : Int) (j : Int) low && (decide (best = -1) || (decide (rule = 1) && decide (loadOf S best < loadOf S (m : Int))))) = false → ∀ G2, Qk b G1 G2 → TW Z mi_X2_hunted (d + 8) 99 [some (tR (some e)), some (tI (i : Int)), some (tI (j : Int)), some (tI w), some (tI rule), some (tI best), some (tI (n : Int)), some (tI (m : Int))] [] G2 Q := fun hz G2 K2 => by
        rw [hz, if_neg (by decide)] at hf
        exact r_X2_hunted_99 (ih (n + 1) best G2 _ (K.trans K2) (by omega) hb h1 hf)
      have taken : rule = 1 → (isOpenB S (m : Int) (i : Int) (j : Int) low && (decide (best = -1) || (decide (rule = 1) && decide (loadOf S best < loadOf S (m : Int))))) = true → ∀ G2, Qk b G1 G2 → TW Z mi_X2_hunted (d + 8) 99 [some (tR (some e)), some (tI (i : Int)), some (tI (j : Int)), some (tI w), some (tI rule), some (tI (m : Int)), some (tI (n : Int)), some (tI (m : Int))] [] G2 Q := fun h1' hz G2 K2 => by
        rw [hz, if_pos rfl] at hf
        exact r_X2_hunted_99 (ih (n + 1) (m : Int) G2 _ (K.trans K2) (by omega) (Or.inr ⟨by omega, hm9⟩) (fun h => absurd h1' h) hf)
      have main : (inR (iand (ishr w (m : Int)) 1)) ∧ ((iand (ishr w (m : Int)) 1 = 0 → TW Z mi_X2_hunted (d + 8) 99 [some (tR (some e)), some (tI (i : Int)), some (tI (j : Int)), some (tI w), some (tI rule), some (tI best), some (tI (n : Int)), some (tI (m : Int))] [] G1 Q) ∧ (¬ iand (ishr w (m : Int)) 1 = 0 → TC Z (d + 7) mi_X2_isOpen [tR (some e), tI (m : Int), tI (i : Int), tI (j : Int)] G1 (KQ Z mi_X2_hunted (d + 8) 56 59 [some (tR (some e)), some (tI (i : Int)), some (tI (j : Int)), some (tI w), some (tI rule), some (tI best), some (tI (n : Int)), some (tI (m : Int))] [] Q))) := by
        rw [bit]
        cases ht : isThereB S (m : Int) low
        · exact ⟨by decide, fun _ => nope (by unfold isOpenB; rw [ht]; rfl) G1 Qk.rf, fun hn' => absurd rfl hn'⟩
        · refine ⟨by decide, fun hn' => absurd hn' (by decide), fun _ => xc_isOpen R1 (by omega) hi hj (fun G2 K2 => r_X2_hunted_59 ?_)⟩
          have R2 := R1.qk K2
          cases ho : (decide (carriedAt S (m : Int) (i : Int) false = -1) && decide (carriedAt S (m : Int) (j : Int) true = -1))
          · exact ⟨by decide, fun hn' => absurd rfl hn', fun _ => nope (by unfold isOpenB; rw [ht, ho]; rfl) G2 K2⟩
          · have op : isOpenB S (m : Int) (i : Int) (j : Int) low = true := by unfold isOpenB; rw [ht, ho]; rfl
            refine ⟨by decide, fun _ => ⟨by omega, fun hr1 => ⟨ib, fun hb1 => ?_, fun hb1 => ⟨R2.k, ?_⟩⟩, fun hr1 => ?_⟩, fun hn' => absurd hn' (by decide)⟩
            · exact taken hr1 (by rw [op, decide_eq_true hb1]; rfl) G2 K2
            · obtain ⟨bn, hbn⟩ : ∃ bn : Nat, best = (bn : Int) := ⟨best.toNat, by omega⟩
              · subst hbn
                have l1 := load_le V (m := (m : Int)) (by omega)
                have l2 := load_le V (m := (bn : Int)) (by omega)
                refine xc_load V R2 (by omega) (fun G3 K3 => r_X2_hunted_86 ⟨(R2.qk K3).k, xc_load V (R2.qk K3) (by omega) (fun G4 K4 => r_X2_hunted_92 ⟨by omega, by omega, fun hle => ?_, fun hgt => ?_⟩)⟩)
                · exact nope (by rw [decide_eq_false hb1, decide_eq_false (show ¬ loadOf S (bn : Int) < loadOf S (m : Int) by omega), Bool.and_false, Bool.or_false, Bool.and_false]) G4 ((K2.trans K3).trans K4)
                · exact taken hr1 (by rw [op, decide_eq_true hr1, decide_eq_true (show loadOf S (bn : Int) < loadOf S (m : Int) by omega), Bool.and_true, Bool.or_true, Bool.and_true]) G4 ((K2.trans K3).trans K4)
            · have hb1 := h1 hr1
              rw [op, decide_eq_true hb1, Bool.true_or, Bool.and_true, if_pos rfl, huntL_stay hr1 _ _ _ (by omega)] at hf
              have := q G2 (K.trans K2)
              rw [← hf] at this
              exact this
      refine r_X2_hunted_6 ⟨R1.k, by omega, by rw [R1.f40]; omega, fun hn' => by rw [R1.f40] at hn'; omega, fun _ => ⟨by omega, fun hr2 => ?_, fun hr2 => ?_⟩⟩
      · unfold huntM at hm
        rw [if_neg hr2] at hm
        have hmn : m = n := by omega
        subst hmn
        exact main
      · unfold huntM at hm
        rw [if_pos hr2] at hm
        rw [R1.f45, R1.f40, hm]
        exact ⟨by omega, by omega, main⟩
  exact c_X2_hunted (loop (S 0 40).toNat 0 (-1) G none Qk.rf (by omega) (Or.inl rfl) (fun _ => rfl) rfl)
end EXH
