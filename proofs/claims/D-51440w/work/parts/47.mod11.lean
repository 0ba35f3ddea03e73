/-! THE MODEL'S METHODS, 11: output, input, shares -/
theorem i2b_nat : ∀ n : Fin 128, i2b (i2b (n.val : Int)) = (n.val : Int) := by decide +kernel
theorem i2b_small {b : Int} (h : 0 ≤ b ∧ b < 128) : i2b (i2b b) = b := by
  have := i2b_nat ⟨b.toNat, by omega⟩
  simp only [Int.toNat_of_nonneg h.1] at this
  exact this
/-- what stands in the output -/
def OutP (X : St) (l : List Int) : Prop := X 0 37 = (l.length : Int) ∧ ∀ i : Nat, i < l.length → X 36 i = l.getD i 0
def Xq (X X' : St) : Prop := ∀ f c : Nat, f ≠ 36 → (f ≠ 0 ∨ c ≠ 37) → X' f c = X f c
theorem Xq.rf {X : St} : Xq X X := fun _ _ _ _ => rfl
theorem Xq.trans {A B C : St} (h : Xq A B) (k : Xq B C) : Xq A C := fun f c h1 h2 => (k f c h1 h2).trans (h f c h1 h2)
theorem mc_writes {Z : ZT} {d : Nat} {G : GH} {Q : TR → GH → Prop} {m : Nat} {S X : St} {l : List Int} {b : Int} (hM : MOK G m) (hO : OutP X l) (hl : l.length < 1000) (hb : 0 ≤ b ∧ b < 128) (q : ∀ X', Xq X X' → OutP X' (l ++ [b]) → Q (.inl none) (pM G m S X')) : TC Z (d + 1) mi_X5_writes [tR (some m), tI b] (pM G m S X) Q := by
  obtain ⟨o1, o2⟩ := hO
  refine c_X5_writes hM ⟨by omega, ?_⟩
  rw [i2b_small hb, o1, Int.toNat_natCast]
  refine q _ (fun f c h1 h2 => (up2_ne (by omega)).trans (up2_ne (by omega))) ⟨?_, fun i hi => ?_⟩
  · rw [up2_at, List.length_append]; rfl
  · rw [List.length_append] at hi
    rw [up2_ne (Or.inl (by decide))]
    by_cases e : i = l.length
    · subst e
      rw [up2_at, List.getD_eq_getElem?_getD, List.getElem?_append_right (Nat.le_refl _), Nat.sub_self]
      rfl
    · have hi' : i < l.length := by simp only [List.length_cons, List.length_nil] at hi; omega
      rw [up2_ne (Or.inr e), o2 i hi', List.getD_eq_getElem?_getD, List.getD_eq_getElem?_getD, List.getElem?_append_left hi']
/-- the digits of a number below a thousand -/
def numL (x : Int) : List Int := if x < 10 then [48 + x] else if x < 100 then [48 + x / 10, 48 + x % 10] else [48 + x / 100, 48 + x / 10 % 10, 48 + x % 10]
theorem numL_len {x : Int} : (numL x).length ≤ 3 := by unfold numL; split <;> (try split) <;> simp
theorem mc_writesNumber {Z : ZT} {d : Nat} {G : GH} {Q : TR → GH → Prop} {m : Nat} {S X : St} {l : List Int} {x : Int} (hM : MOK G m) (hO : OutP X l) (hl : l.length < 990) (hx : 0 ≤ x ∧ x < 1000) (q : ∀ X', Xq X X' → OutP X' (l ++ numL x) → Q (.inl none) (pM G m S X')) : TC Z (d + 2) mi_X5_writesNumber [tR (some m), tI x] (pM G m S X) Q := by
  have e1 : x.tdiv 1 = x := Int.tdiv_one x
  have e10 : x.tdiv 10 = x / 10 := Int.tdiv_eq_ediv_of_nonneg hx.1
  have e100 : x.tdiv 100 = x / 100 := Int.tdiv_eq_ediv_of_nonneg hx.1
  have e10b : x.tdiv (1 * 10) = x / 10 := e10
  have e100b : x.tdiv (1 * 10 * 10) = x / 100 := e100
  have m1 : (x.tdiv 1).tmod 10 = x % 10 := by rw [e1]; exact Int.tmod_eq_emod_of_nonneg hx.1
  have m10 : (x.tdiv 10).tmod 10 = x / 10 % 10 := by rw [e10]; exact Int.tmod_eq_emod_of_nonneg (by omega)
  have m100 : (x.tdiv 100).tmod 10 = x / 100 % 10 := by rw [e100]; exact Int.tmod_eq_emod_of_nonneg (by omega)
  have fin0 : ∀ (X1 : St) (l' : List Int), Xq X X1 → OutP X1 l' → l' = l ++ numL x → TW Z mi_X5_writesNumber (d + 2) 18 [some (tR (some m)), some (tI x), some (tI 0)] [] (pM G m S X1) Q := by
    intro X1 l' hX hO' he
    subst he
    exact r_X5_writesNumber_18 hM ⟨by decide, fun _ => q X1 hX hO', fun h => by omega⟩
  have fin1 : ∀ (X1 : St) (l' : List Int), Xq X X1 → OutP X1 l' → l'.length < 1000 → l' ++ [48 + x % 10] = l ++ numL x → TW Z mi_X5_writesNumber (d + 2) 18 [some (tR (some m)), some (tI x), some (tI 1)] [] (pM G m S X1) Q := by
    intro X1 l' hX hO' hl' he
    refine r_X5_writesNumber_18 hM ⟨by decide, fun h => by omega, fun _ => ⟨by omega, by decide, by omega, ?_⟩⟩
    rw [m1]
    exact mc_writes hM hO' hl' (by omega) (fun X2 hX2 hO2 => r_X5_writesNumber_35 hM ⟨by decide, fin0 X2 _ (hX.trans hX2) hO2 he⟩)
  have fin10 : ∀ (X1 : St) (l' : List Int), Xq X X1 → OutP X1 l' → l'.length < 999 → l' ++ [48 + x / 10 % 10] ++ [48 + x % 10] = l ++ numL x → TW Z mi_X5_writesNumber (d + 2) 18 [some (tR (some m)), some (tI x), some (tI 10)] [] (pM G m S X1) Q := by
    intro X1 l' hX hO' hl' he
    refine r_X5_writesNumber_18 hM ⟨by decide, fun h => by omega, fun _ => ⟨by omega, by decide, by omega, ?_⟩⟩
    rw [m10]
    exact mc_writes hM hO' (by omega) (by omega) (fun X2 hX2 hO2 => r_X5_writesNumber_35 hM ⟨by decide, fin1 X2 _ (hX.trans hX2) hO2 (by rw [List.length_append]; simp only [List.length_cons, List.length_nil]; omega) he⟩)
  have fin100 : ∀ (X1 : St) (l' : List Int), Xq X X1 → OutP X1 l' → l'.length < 998 → l' ++ [48 + x / 100 % 10] ++ [48 + x / 10 % 10] ++ [48 + x % 10] = l ++ numL x → TW Z mi_X5_writesNumber (d + 2) 18 [some (tR (some m)), some (tI x), some (tI 100)] [] (pM G m S X1) Q := by
    intro X1 l' hX hO' hl' he
    refine r_X5_writesNumber_18 hM ⟨by decide, fun h => by omega, fun _ => ⟨by omega, by decide, by omega, ?_⟩⟩
    rw [m100]
    exact mc_writes hM hO' (by omega) (by omega) (fun X2 hX2 hO2 => r_X5_writesNumber_35 hM ⟨by decide, fin10 X2 _ (hX.trans hX2) hO2 (by rw [List.length_append]; simp only [List.length_cons, List.length_nil]; omega) he⟩)
  refine c_X5_writesNumber hM (r_X5_writesNumber_2 hM ⟨by omega, by decide, by decide, by omega, fun h => ?_, fun h => r_X5_writesNumber_2 hM ⟨by omega, by decide, by decide, by omega, fun h2 => ?_, fun h2 => r_X5_writesNumber_2 hM ⟨by omega, by decide, by decide, by omega, fun h3 => ?_, fun h3 => by exfalso; omega⟩⟩⟩)
  · refine fin1 X l Xq.rf hO (by omega) ?_
    unfold numL
    rw [if_pos (by omega), show x % 10 = x by omega]
  · refine fin10 X l Xq.rf hO (by omega) ?_
    unfold numL
    rw [if_neg (by omega), if_pos (by omega), show x / 10 % 10 = x / 10 by omega, List.append_assoc]
    rfl
  · refine fin100 X l Xq.rf hO (by omega) ?_
    unfold numL
    rw [if_neg (by omega), if_neg (by omega), show x / 100 % 10 = x / 100 by omega, List.append_assoc, List.append_assoc]
    rfl
def callL (S : St) (c : Nat) : List Int := numL (S 48 c) ++ ([58] ++ (numL (S 49 c) ++ ([62] ++ (numL (S 50 c) ++ ([64] ++ numL (S 51 c))))))
def outCL (S : St) : Nat → Nat → List Int
  | 0, _ => []
  | r + 1, c => (if c = 0 then [] else [32]) ++ (callL S c ++ outCL S r (c + 1))
def outCalls (S : St) : List Int := outCL S (S 0 47).toNat 0
def OutC (X X' : St) (l : List Int) : Prop := X' 0 31 = 0 ∧ OutP X' l ∧ ∀ f c : Nat, f ≠ 36 → (f ≠ 0 ∨ (c ≠ 31 ∧ c ≠ 37)) → X' f c = X f c
theorem Xq.c {X X' : St} {l : List Int} {v : Int} (h : Xq (up2 (up2 X 0 31 0) 0 37 v) X') (o : OutP X' l) : OutC X X' l :=
  ⟨(h 0 31 (by decide) (by decide)).trans ((up2_ne (Or.inr (by decide))).trans up2_at), o, fun f c h1 h2 => (h f c h1 (by omega)).trans ((up2_ne (by omega)).trans (up2_ne (by omega)))⟩
theorem out0 {X : St} : OutP (up2 X 0 37 0) [] := ⟨up2_at, fun i hi => absurd hi (Nat.not_lt_zero _)⟩
theorem callL_len {S : St} {c : Nat} : (callL S c).length ≤ 15 := by
  unfold callL
  have a := numL_len (x := S 48 c)
  have b := numL_len (x := S 49 c)
  have e := numL_len (x := S 50 c)
  have f := numL_len (x := S 51 c)
  simp only [List.length_append, List.length_cons, List.length_nil]
  omega
theorem mp_writeCalls {Z : ZT} {d : Nat} {G : GH} {Q : TR → GH → Prop} {m : Nat} {S X : St} (hM : MOK G m) (V : Ok S) (q : ∀ X', OutC X X' (outCalls S) → Q (.inl (some (tI (outCalls S).length))) (pM G m S X')) : TC Z (d + 9) mi_X5_writeCalls [tR (some m)] (pM G m S X) Q := by
  have I := V.1.1
  obtain ⟨⟨i38, i39, i40, i41, i42, i43, i44, i45, i46, i47, i55, i60⟩, irow, iwait, igrp⟩ := id I
  have loop : ∀ (r c : Nat) (X1 : St) (l : List Int), c + r = (S 0 47).toNat → Xq (up2 (up2 X 0 31 0) 0 37 0) X1 → OutP X1 l → l.length ≤ 16 * c → l ++ outCL S r c = outCalls S → TW Z mi_X5_writeCalls (d + 9) 12 [some (tR (some m)), some (tI (c : Int))] [] (pM G m S X1) Q := by
    intro r
    induction r with
    | zero =>
      intro c X1 l hc hX hO hl he
      simp only [outCL, List.append_nil] at he
      have q1 := q X1 (hX.c (by rw [← he]; exact hO))
      rw [← he, ← hO.1] at q1
      exact r_X5_writeCalls_12 hM ⟨by omega, by omega, fun _ => q1, fun h => by omega⟩
    | succ r ih =>
      intro c X1 l hc hX hO hl he
      obtain ⟨r48, r49, r50, r51, -⟩ := irow c (by omega)
      have l51 : 0 ≤ S 51 c := by have := V.2.1 c (by omega); omega
      have go : ∀ (X2 : St) (l2 : List Int), Xq (up2 (up2 X 0 31 0) 0 37 0) X2 → OutP X2 l2 → l2.length ≤ 16 * c + 1 → l2 ++ (callL S c ++ outCL S r (c + 1)) = outCalls S → TC Z (d + 8) mi_X5_writesNumber [tR (some m), tI (S 48 c)] (pM G m S X2) (KQ Z mi_X5_writeCalls (d + 9) 37 40 [some (tR (some m)), some (tI (c : Int))] [] Q) := by
        intro X2 l2 hX2 hO2 hl2 he2
        have n1 := numL_len (x := S 48 c)
        have n2 := numL_len (x := S 49 c)
        have n3 := numL_len (x := S 50 c)
        have n4 := numL_len (x := S 51 c)
        refine mc_writesNumber hM hO2 (by omega) (by omega) (fun X3 hX3 hO3 => r_X5_writeCalls_40 hM (mc_writes hM hO3 (by simp only [List.length_append, List.length_cons, List.length_nil]; omega) (by decide) (fun X4 hX4 hO4 => r_X5_writeCalls_46 hM ⟨by omega, ?_⟩)))
        simp only [Int.toNat_natCast]
        refine mc_writesNumber hM hO4 (by simp only [List.length_append, List.length_cons, List.length_nil]; omega) (by omega) (fun X5 hX5 hO5 => r_X5_writeCalls_56 hM (mc_writes hM hO5 (by simp only [List.length_append, List.length_cons, List.length_nil]; omega) (by decide) (fun X6 hX6 hO6 => r_X5_writeCalls_62 hM ⟨by omega, ?_⟩)))
        simp only [Int.toNat_natCast]
        refine mc_writesNumber hM hO6 (by simp only [List.length_append, List.length_cons, List.length_nil]; omega) (by omega) (fun X7 hX7 hO7 => r_X5_writeCalls_72 hM (mc_writes hM hO7 (by simp only [List.length_append, List.length_cons, List.length_nil]; omega) (by decide) (fun X8 hX8 hO8 => r_X5_writeCalls_78 hM ⟨by omega, ?_⟩)))
        simp only [Int.toNat_natCast]
        refine mc_writesNumber hM hO8 (by simp only [List.length_append, List.length_cons, List.length_nil]; omega) (by omega) (fun X9 hX9 hO9 => r_X5_writeCalls_88 hM (ih (c + 1) X9 _ (by omega) (((((((hX2.trans hX3).trans hX4).trans hX5).trans hX6).trans hX7).trans hX8).trans hX9) hO9 (by simp only [List.length_append, List.length_cons, List.length_nil]; omega) ?_))
        rw [← he2]
        unfold callL
        simp only [List.append_assoc]
      simp only [outCL] at he
      refine r_X5_writeCalls_12 hM ⟨by omega, by omega, fun h => by omega, fun _ => ⟨fun h => ⟨by omega, ?_⟩, fun h => ?_⟩⟩
      · rw [if_pos (by omega)] at he
        simp only [Int.toNat_natCast]
        exact go X1 l hX hO (by omega) he
      · rw [if_neg (by omega)] at he
        refine mc_writes hM hO (by omega) (by decide) (fun X2 hX2 hO2 => r_X5_writeCalls_30 hM ⟨by omega, ?_⟩)
        simp only [Int.toNat_natCast]
        exact go X2 _ (hX.trans hX2) hO2 (by simp only [List.length_append, List.length_cons, List.length_nil]; omega) (by rw [List.append_assoc]; exact he)
  exact c_X5_writeCalls hM (loop (S 0 47).toNat 0 _ [] (by omega) Xq.rf out0 (by simp) rfl)
/-- a cell of the table of middles -/
def cellL (S : St) (i j : Int) : Nat → Nat → List Int
  | 0, _ => []
  | r + 1, k => (if carriedAt S (k : Int) i false ≠ -1 ∧ toS S (carriedAt S (k : Int) i false).toNat = j then [48 + (k : Int)] else []) ++ cellL S i j r (k + 1)
def cell (S : St) (i j : Int) : List Int := if cellL S i j (S 0 40).toNat 0 = [] then [46] else cellL S i j (S 0 40).toNat 0
def rowL (S : St) (i : Nat) : Nat → Nat → List Int
  | 0, _ => []
  | r + 1, j => (if i + j = 0 then [] else if j = 0 then [47] else [32]) ++ (cell S (i : Int) (j : Int) ++ rowL S i r (j + 1))
def midL (S : St) : Nat → Nat → List Int
  | 0, _ => []
  | r + 1, i => rowL S i (S 0 38).toNat 0 ++ midL S r (i + 1)
def outMid (S : St) : List Int := midL S (S 0 38).toNat 0
theorem cellL_len {S : St} {i j : Int} : ∀ r k : Nat, (cellL S i j r k).length ≤ r := by
  intro r
  induction r with
  | zero => intro k; exact Nat.le_refl _
  | succ r ih =>
    intro k
    have := ih (k + 1)
    simp only [cellL, List.length_append]
    split <;> simp only [List.length_cons, List.length_nil] <;> omega
theorem mp_writeMiddles {Z : ZT} {d : Nat} {G : GH} {Q : TR → GH → Prop} {m : Nat} {S X : St} (hM : MOK G m) (V : Ok S) (q : ∀ X', OutC X X' (outMid S) → Q (.inl (some (tI (outMid S).length))) (pM G m S X')) : TC Z (d + 9) mi_X5_writeMiddles [tR (some m)] (pM G m S X) Q := by
  have I := V.1.1
  obtain ⟨⟨i38, i39, i40, i41, i42, i43, i44, i45, i46, i47, i55, i60⟩, irow, iwait, igrp⟩ := id I
  have cellW : ∀ (r k : Nat) (i j : Nat) (X1 : St) (l lc : List Int) (o5 : Option Value), k + r = (S 0 40).toNat → i < 6 → j < 6 → Xq (up2 (up2 X 0 31 0) 0 37 0) X1 → OutP X1 (l ++ lc) → l.length ≤ 960 → lc.length ≤ k → lc ++ cellL S (i : Int) (j : Int) r k = cellL S (i : Int) (j : Int) (S 0 40).toNat 0 →
      (∀ X2, Xq (up2 (up2 X 0 31 0) 0 37 0) X2 → OutP X2 (l ++ cell S (i : Int) (j : Int)) → ∀ o3 o4 o5, TW Z mi_X5_writeMiddles (d + 9) 22 [some (tR (some m)), some (tI (i : Int)), some (tI ((j : Int) + 1)), o3, o4, o5] [] (pM G m S X2) Q) →
      TW Z mi_X5_writeMiddles (d + 9) 56 [some (tR (some m)), some (tI (i : Int)), some (tI (j : Int)), some (tI (b2i (decide (lc ≠ [])))), some (tI (k : Int)), o5] [] (pM G m S X1) Q := by
    intro r
    induction r with
    | zero =>
      intro k i j X1 l lc o5 hk hi hj hX hO hl hlc he qq
      simp only [cellL, List.append_nil] at he
      unfold cell at qq
      rw [← he] at qq
      refine r_X5_writeMiddles_56 hM ⟨by omega, by omega, fun _ => ?_, fun h => by omega⟩
      by_cases hn : lc = []
      · rw [decide_eq_false (fun h => h hn)]
        rw [if_pos hn] at qq
        subst hn
        rw [List.append_nil] at hO
        exact ⟨by decide, fun h => absurd rfl h, fun _ => mc_writes hM hO (by omega) (by decide) (fun X2 hX2 hO2 => r_X5_writeMiddles_118 hM (qq X2 (hX.trans hX2) hO2 _ _ _))⟩
      · rw [decide_eq_true hn]
        rw [if_neg hn] at qq
        exact ⟨by decide, fun _ => qq X1 hX hO _ _ _, fun h => absurd h (by decide)⟩
    | succ r ih =>
      intro k i j X1 l lc o5 hk hi hj hX hO hl hlc he qq
      have cr := carriedAt_rng (S := S) (m := (k : Int)) (s := (i : Int)) (b := false)
      simp only [cellL] at he
      refine r_X5_writeMiddles_56 hM ⟨by omega, by omega, fun h => by omega, fun _ => mc_carriedAt (b := false) hM I (by omega) (by omega) (r_X5_writeMiddles_73 hM ⟨by omega, fun h => ?_, fun h => ?_⟩)⟩
      · rw [if_neg (fun z => z.1 h), List.nil_append] at he
        exact ih (k + 1) i j X1 l lc _ (by omega) hi hj hX hO hl (by omega) he qq
      · obtain ⟨c, hc⟩ : ∃ n : Nat, carriedAt S (k : Int) (i : Int) false = (n : Int) := ⟨(carriedAt S (k : Int) (i : Int) false).toNat, by omega⟩
        rw [hc] at he cr ⊢
        rw [Int.toNat_natCast] at he
        have e2 := toS_rng (irow c (by omega)) (by omega)
        refine mc_toSwitch hM I (by omega) (r_X5_writeMiddles_87 hM ⟨by omega, by omega, fun h2 => ?_, fun h2 => ?_⟩)
        · rw [if_neg (fun z => h2 z.2), List.nil_append] at he
          exact ih (k + 1) i j X1 l lc _ (by omega) hi hj hX hO hl (by omega) he qq
        · rw [if_pos ⟨by omega, h2⟩] at he
          refine mc_writes hM hO (by rw [List.length_append]; omega) (by omega) (fun X2 hX2 hO2 => r_X5_writeMiddles_100 hM ?_)
          have := ih (k + 1) i j X2 l (lc ++ [48 + (k : Int)]) (some (tI (c : Int))) (by omega) hi hj (hX.trans hX2) (by rw [← List.append_assoc]; exact hO2) hl (by simp only [List.length_append, List.length_cons, List.length_nil]; omega) (by rw [List.append_assoc]; exact he) qq
          rw [decide_eq_true (by simp)] at this
          exact this
  have rowW : ∀ (r j i : Nat) (X1 : St) (l : List Int) (o3 o4 o5 : Option Value), j + r = (S 0 38).toNat → i < (S 0 38).toNat → Xq (up2 (up2 X 0 31 0) 0 37 0) X1 → OutP X1 l → l.length ≤ 60 * i + 10 * j →
      (∀ X2, Xq (up2 (up2 X 0 31 0) 0 37 0) X2 → (l ++ rowL S i r j).length ≤ 60 * (i + 1) → OutP X2 (l ++ rowL S i r j) → ∀ o2 o3 o4 o5, TW Z mi_X5_writeMiddles (d + 9) 12 [some (tR (some m)), some (tI ((i : Int) + 1)), o2, o3, o4, o5] [] (pM G m S X2) Q) →
      TW Z mi_X5_writeMiddles (d + 9) 22 [some (tR (some m)), some (tI (i : Int)), some (tI (j : Int)), o3, o4, o5] [] (pM G m S X1) Q := by
    intro r
    induction r with
    | zero =>
      intro j i X1 l o3 o4 o5 hj hi hX hO hl qq
      simp only [rowL, List.append_nil] at qq
      exact r_X5_writeMiddles_22 hM ⟨by omega, by omega, fun _ => qq X1 hX (by omega) hO _ _ _ _, fun h => by omega⟩
    | succ r ih =>
      intro j i X1 l o3 o4 o5 hj hi hX hO hl qq
      simp only [rowL] at qq
      have cl : (cell S (i : Int) (j : Int)).length ≤ 9 := by
        have := cellL_len (S := S) (i := (i : Int)) (j := (j : Int)) (S 0 40).toNat 0
        unfold cell
        split
        · decide
        · omega
      have go : ∀ (X2 : St) (l2 : List Int) (o3 o4 o5 : Option Value), Xq (up2 (up2 X 0 31 0) 0 37 0) X2 → OutP X2 l2 → l2.length ≤ 60 * i + 10 * j + 1 → (∀ x, l2 ++ x = l ++ ((if i + j = 0 then [] else if j = 0 then [47] else [32]) ++ x)) →
          TW Z mi_X5_writeMiddles (d + 9) 56 [some (tR (some m)), some (tI (i : Int)), some (tI (j : Int)), some (tI 0), some (tI 0), o5] [] (pM G m S X2) Q := by
        intro X2 l2 o3 o4 o5 hX2 hO2 hl2 he2
        refine cellW (S 0 40).toNat 0 i j X2 l2 [] o5 (by omega) (by omega) (by omega) hX2 (by rw [List.append_nil]; exact hO2) (by omega) (Nat.le_refl _) rfl (fun X3 hX3 hO3 o3 o4 o5 => ih (j + 1) i X3 _ o3 o4 o5 (by omega) hi hX3 hO3 (by rw [List.length_append]; omega) (fun X4 hX4 hl4 hO4 o2 o3 o4 o5 => ?_))
        rw [List.append_assoc, he2] at hl4 hO4
        exact qq X4 hX4 hl4 hO4 o2 o3 o4 o5
      refine r_X5_writeMiddles_22 hM ⟨by omega, by omega, fun h => by omega, fun _ => ⟨by omega, fun h => ?_, fun h => ⟨fun h2 => ?_, fun h2 => ?_⟩⟩⟩
      · exact go X1 l o3 o4 o5 hX hO (by omega) (fun x => by rw [if_pos (by omega), List.nil_append])
      · refine mc_writes hM hO (by omega) (by decide) (fun X2 hX2 hO2 => r_X5_writeMiddles_51 hM (go X2 _ o3 o4 o5 (hX.trans hX2) hO2 (by simp only [List.length_append, List.length_cons, List.length_nil]; omega) (fun x => ?_)))
        rw [if_neg (by omega), if_neg (by omega), List.append_assoc]
      · refine mc_writes hM hO (by omega) (by decide) (fun X2 hX2 hO2 => r_X5_writeMiddles_51 hM (go X2 _ o3 o4 o5 (hX.trans hX2) hO2 (by simp only [List.length_append, List.length_cons, List.length_nil]; omega) (fun x => ?_)))
        rw [if_neg (by omega), if_pos (by omega), List.append_assoc]
  have loop : ∀ (r i : Nat) (X1 : St) (l : List Int) (o2 o3 o4 o5 : Option Value), i + r = (S 0 38).toNat → Xq (up2 (up2 X 0 31 0) 0 37 0) X1 → OutP X1 l → l.length ≤ 60 * i → l ++ midL S r i = outMid S → TW Z mi_X5_writeMiddles (d + 9) 12 [some (tR (some m)), some (tI (i : Int)), o2, o3, o4, o5] [] (pM G m S X1) Q := by
    intro r
    induction r with
    | zero =>
      intro i X1 l o2 o3 o4 o5 hi hX hO hl he
      simp only [midL, List.append_nil] at he
      have q1 := q X1 (hX.c (by rw [← he]; exact hO))
      rw [← he, ← hO.1] at q1
      exact r_X5_writeMiddles_12 hM ⟨by omega, by omega, fun _ => q1, fun h => by omega⟩
    | succ r ih =>
      intro i X1 l o2 o3 o4 o5 hi hX hO hl he
      simp only [midL] at he
      refine r_X5_writeMiddles_12 hM ⟨by omega, by omega, fun h => by omega, fun _ => rowW (S 0 38).toNat 0 i X1 l _ _ _ (by omega) (by omega) hX hO (by omega) (fun X2 hX2 hl2 hO2 o2 o3 o4 o5 => ih (i + 1) X2 _ _ _ _ _ (by omega) hX2 hO2 hl2 ?_)⟩
      rw [List.append_assoc]
      exact he
  exact c_X5_writeMiddles hM (loop (S 0 38).toNat 0 _ [] _ _ _ _ (by omega) Xq.rf out0 (by simp) rfl)
theorem mp_outputByte {Z : ZT} {d : Nat} {G : GH} {Q : TR → GH → Prop} {m : Nat} {S X : St} {i : Int} {l : List Int} (hM : MOK G m) (hi : inR i) (hO : OutP X l) (hl : l.length ≤ 1000) (q : QC G m S X (0, if 0 ≤ i ∧ i < (l.length : Int) then l.getD i.toNat 0 else -1) Q) : TC Z (d + 9) mi_X5_outputByte [tR (some m), tI i] (pM G m S X) Q := by
  obtain ⟨o1, o2⟩ := hO
  refine c_X5_outputByte hM ⟨hi, fun h => ?_, fun h => ⟨by omega, fun h2 => ⟨by omega, ?_⟩, fun h2 => ?_⟩⟩
  · rw [if_neg (by omega)] at q; exact q S _ Sg.rfl' Xp.a
  · rw [if_pos (by omega)] at q
    rw [o2 i.toNat (by omega)]
    exact q S _ Sg.rfl' Xp.a
  · rw [if_neg (by omega)] at q; exact q S _ Sg.rfl' Xp.a
theorem mp_errorCode {Z : ZT} {d : Nat} {G : GH} {Q : TR → GH → Prop} {m : Nat} {S X : St} (hM : MOK G m) (q : QC G m S X (0, X 0 34) Q) : TC Z (d + 9) mi_X5_errorCode [tR (some m)] (pM G m S X) Q := c_X5_errorCode hM (q S _ Sg.rfl' Xp.a)
theorem mp_errorPosition {Z : ZT} {d : Nat} {G : GH} {Q : TR → GH → Prop} {m : Nat} {S X : St} (hM : MOK G m) (q : QC G m S X (0, X 0 35) Q) : TC Z (d + 9) mi_X5_errorPosition [tR (some m)] (pM G m S X) Q := c_X5_errorPosition hM (q S _ Sg.rfl' Xp.a)
theorem mp_thrown {Z : ZT} {d : Nat} {G : GH} {Q : TR → GH → Prop} {m : Nat} {S X : St} (hM : MOK G m) (q : Q (.inl (some (tI (X 0 31)))) (pM G m S X)) : TC Z (d + 9) mi_X5_thrown [tR (some m)] (pM G m S X) Q := c_X5_thrown hM q
