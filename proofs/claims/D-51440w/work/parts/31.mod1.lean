/-! THE MODEL'S METHODS, 1: what they answer, in terms of the pure picture -/
def RowR (S : St) (c : Nat) : Prop := (0 ≤ S 48 c ∧ S 48 c < 200) ∧ (0 ≤ S 49 c ∧ S 49 c < 36) ∧ (0 ≤ S 50 c ∧ S 50 c < 36) ∧ (-1 ≤ S 51 c ∧ S 51 c < 9) ∧ (0 ≤ S 52 c ∧ S 52 c ≤ 100000) ∧ (0 ≤ S 53 c ∧ S 53 c ≤ 99)
def WaitR (S : St) (w : Nat) : Prop := (0 ≤ S 56 w ∧ S 56 w < 36) ∧ (0 ≤ S 57 w ∧ S 57 w < S 0 60) ∧ (0 ≤ S 58 w ∧ S 58 w ≤ 99) ∧ (0 ≤ S 59 w ∧ S 59 w ≤ 100000)
def GrpR (S : St) (g : Nat) : Prop := (1 ≤ S 61 g ∧ S 61 g ≤ 6) ∧ (∀ i : Nat, i < (S 61 g).toNat → 97 ≤ S 62 (6 * g + i) ∧ S 62 (6 * g + i) ≤ 122) ∧ (1 ≤ S 63 g ∧ S 63 g ≤ 8) ∧ ∀ k : Nat, k < (S 63 g).toNat → 0 ≤ S 64 (8 * g + k) ∧ S 64 (8 * g + k) < 36
/-- the ranges -/
def Rg (S : St) : Prop :=
  ((1 ≤ S 0 38 ∧ S 0 38 ≤ 6) ∧ (1 ≤ S 0 39 ∧ S 0 39 ≤ 6) ∧ (1 ≤ S 0 40 ∧ S 0 40 ≤ 9) ∧ (0 ≤ S 0 41 ∧ S 0 41 ≤ 511) ∧ (0 ≤ S 0 42 ∧ S 0 42 ≤ 1) ∧ (0 ≤ S 0 43 ∧ S 0 43 ≤ 2) ∧ (0 ≤ S 0 44 ∧ S 0 44 ≤ 100000) ∧ (0 ≤ S 0 45 ∧ S 0 45 ≤ 8) ∧ (0 ≤ S 0 46 ∧ S 0 46 ≤ 200) ∧ (0 ≤ S 0 47 ∧ S 0 47 ≤ 18) ∧ (0 ≤ S 0 55 ∧ S 0 55 ≤ 8) ∧ (0 ≤ S 0 60 ∧ S 0 60 ≤ 4)) ∧
  (∀ c : Nat, c < (S 0 47).toNat → RowR S c) ∧ (∀ w : Nat, w < (S 0 55).toNat → WaitR S w) ∧ ∀ g : Nat, g < (S 0 60).toNat → GrpR S g
theorem fnd_rng {p : Nat → Bool} : ∀ k c : Nat, -1 ≤ fnd p k c ∧ fnd p k c < (c + k : Nat) := by
  intro k
  induction k with
  | zero => intro c; simp only [fnd]; omega
  | succ k ih =>
    intro c
    have := ih (c + 1)
    simp only [fnd]
    split <;> omega
theorem mc_callWith {Z : ZT} {d : Nat} {G : GH} {Q : TR → GH → Prop} {m : Nat} {S X : St} {s : Int} (hM : MOK G m) (I : Rg S) (hs : inR s) (q : Q (.inl (some (tI (callWith S s)))) (pM G m S X)) : TC Z (d + 1) mi_X5_callWith [tR (some m), tI s] (pM G m S X) Q := by
  obtain ⟨⟨i38, i39, i40, i41, i42, i43, i44, i45, i46, i47, i55, i60⟩, irow, iwait, igrp⟩ := id I
  have loop : ∀ k c : Nat, (S 0 47).toNat = c + k → Q (.inl (some (tI (fnd (fun c => decide (S 49 c = s ∨ S 50 c = s)) k c)))) (pM G m S X) → TW Z mi_X5_callWith (d + 1) 2 [some (tR (some m)), some (tI s), some (tI (c : Int))] [] (pM G m S X) Q := by
    intro k
    induction k with
    | zero =>
      intro c hc q
      exact r_X5_callWith_2 hM ⟨by omega, by omega, fun _ => q, fun h => by omega⟩
    | succ k ih =>
      intro c hc q
      obtain ⟨r48, r49, r50, r51, r52, r53⟩ := irow c (by omega)
      refine r_X5_callWith_2 hM ⟨by omega, by omega, fun h => by omega, fun _ => ⟨by omega, ?_⟩⟩
      simp only [Int.toNat_natCast]
      exact ⟨by omega, hs, fun e => by simpa [fnd, e] using q, fun e => ⟨by omega, fun e' => ih (c + 1) (by omega) (by simpa [fnd, e, e'] using q), fun e' => by simpa [fnd, e'] using q⟩⟩
  exact c_X5_callWith hM (loop (S 0 47).toNat 0 (by omega) q)
theorem mc_waiterPlace {Z : ZT} {d : Nat} {G : GH} {Q : TR → GH → Prop} {m : Nat} {S X : St} {s : Int} (hM : MOK G m) (I : Rg S) (hs : inR s) (q : Q (.inl (some (tI (waitAt S s)))) (pM G m S X)) : TC Z (d + 1) mi_X5_waiterPlace [tR (some m), tI s] (pM G m S X) Q := by
  obtain ⟨⟨i38, i39, i40, i41, i42, i43, i44, i45, i46, i47, i55, i60⟩, irow, iwait, igrp⟩ := id I
  have loop : ∀ k c : Nat, (S 0 55).toNat = c + k → Q (.inl (some (tI (fnd (fun c => decide (S 56 c = s)) k c)))) (pM G m S X) → TW Z mi_X5_waiterPlace (d + 1) 2 [some (tR (some m)), some (tI s), some (tI (c : Int))] [] (pM G m S X) Q := by
    intro k
    induction k with
    | zero =>
      intro c hc q
      exact r_X5_waiterPlace_2 hM ⟨by omega, by omega, fun _ => q, fun h => by omega⟩
    | succ k ih =>
      intro c hc q
      obtain ⟨r56, r57, r58, r59⟩ := iwait c (by omega)
      refine r_X5_waiterPlace_2 hM ⟨by omega, by omega, fun h => by omega, fun _ => ⟨by omega, ?_⟩⟩
      simp only [Int.toNat_natCast]
      exact ⟨by omega, hs, fun e' => ih (c + 1) (by omega) (by simpa [fnd, e'] using q), fun e' => by simpa [fnd, e'] using q⟩
  exact c_X5_waiterPlace hM (loop (S 0 55).toNat 0 (by omega) q)
theorem callWith_rng {S : St} {s : Int} : -1 ≤ callWith S s ∧ callWith S s < (S 0 47).toNat := by have := fnd_rng (p := fun c => decide (S 49 c = s ∨ S 50 c = s)) (S 0 47).toNat 0; simpa [callWith] using this
theorem waitAt_rng {S : St} {s : Int} : -1 ≤ waitAt S s ∧ waitAt S s < (S 0 55).toNat := by have := fnd_rng (p := fun c => decide (S 56 c = s)) (S 0 55).toNat 0; simpa [waitAt] using this
theorem mc_isIdle {Z : ZT} {d : Nat} {G : GH} {Q : TR → GH → Prop} {m : Nat} {S X : St} {s : Int} (hM : MOK G m) (I : Rg S) (hs : inR s) (q : Q (.inl (some (tI (b2i (idleB S s))))) (pM G m S X)) : TC Z (d + 2) mi_X5_isIdle [tR (some m), tI s] (pM G m S X) Q := by
  obtain ⟨⟨i38, i39, i40, i41, i42, i43, i44, i45, i46, i47, i55, i60⟩, irow, iwait, igrp⟩ := id I
  have h1 := callWith_rng (S := S) (s := s)
  have h2 := waitAt_rng (S := S) (s := s)
  refine c_X5_isIdle hM (mc_callWith hM I hs (r_X5_isIdle_5 hM ⟨by omega, fun e => ?_, fun e => mc_waiterPlace hM I hs (r_X5_isIdle_14 hM ⟨by omega, fun e' => ?_, fun e' => ?_⟩)⟩))
  · simpa [idleB, b2i, e] using q
  · simpa [idleB, b2i, e, e'] using q
  · simpa [idleB, b2i, e, e'] using q
theorem b2i_t : b2i true = 1 := rfl
theorem b2i_f : b2i false = 0 := rfl
theorem b2i_rng (b : Bool) : 0 ≤ b2i b ∧ b2i b ≤ 1 := by cases b <;> simp [b2i]
theorem sumI_rng {p : Nat → Bool} : ∀ k c : Nat, 0 ≤ sumI (fun c => b2i (p c)) k c ∧ sumI (fun c => b2i (p c)) k c ≤ k := by
  intro k
  induction k with
  | zero => intro c; simp only [sumI]; omega
  | succ k ih =>
    intro c
    have := ih (c + 1)
    have h2 := b2i_rng (p c)
    simp only [sumI]
    omega
theorem tdiv_rng {x y : Int} (h0 : 0 ≤ x) (h1 : 1 ≤ y) : 0 ≤ x.tdiv y ∧ x.tdiv y ≤ x := by
  rw [Int.tdiv_eq_ediv_of_nonneg h0]
  exact ⟨Int.ediv_nonneg h0 (by omega), Int.ediv_le_self _ h0⟩
theorem fromS_rng {S : St} {c : Nat} (h : RowR S c) (h1 : 1 ≤ S 0 39) : 0 ≤ fromS S c ∧ fromS S c < 36 := by have := tdiv_rng h.2.1.1 h1; have := h.2.1.2; unfold fromS; omega
theorem toS_rng {S : St} {c : Nat} (h : RowR S c) (h1 : 1 ≤ S 0 39) : 0 ≤ toS S c ∧ toS S c < 36 := by have := tdiv_rng h.2.2.1.1 h1; have := h.2.2.1.2; unfold toS; omega
theorem endS_rng {S : St} {c : Nat} {b : Bool} (h : RowR S c) (h1 : 1 ≤ S 0 39) : 0 ≤ endS S c b ∧ endS S c b < 36 := by
  unfold endS; split
  · exact toS_rng h h1
  · exact fromS_rng h h1
theorem mc_fromSwitch {Z : ZT} {d : Nat} {G : GH} {Q : TR → GH → Prop} {m : Nat} {S X : St} {c : Nat} (hM : MOK G m) (I : Rg S) (hc : c < (S 0 47).toNat) (q : Q (.inl (some (tI (fromS S c)))) (pM G m S X)) : TC Z (d + 1) mi_X5_fromSwitch [tR (some m), tI (c : Int)] (pM G m S X) Q := by
  obtain ⟨⟨i38, i39, i40, i41, i42, i43, i44, i45, i46, i47, i55, i60⟩, irow, iwait, igrp⟩ := id I
  obtain ⟨r48, r49, r50, r51, r52, r53⟩ := irow c hc
  refine c_X5_fromSwitch hM ⟨by omega, ?_⟩
  simp only [Int.toNat_natCast]
  exact ⟨by omega, by omega, by omega, q⟩
theorem mc_toSwitch {Z : ZT} {d : Nat} {G : GH} {Q : TR → GH → Prop} {m : Nat} {S X : St} {c : Nat} (hM : MOK G m) (I : Rg S) (hc : c < (S 0 47).toNat) (q : Q (.inl (some (tI (toS S c)))) (pM G m S X)) : TC Z (d + 1) mi_X5_toSwitch [tR (some m), tI (c : Int)] (pM G m S X) Q := by
  obtain ⟨⟨i38, i39, i40, i41, i42, i43, i44, i45, i46, i47, i55, i60⟩, irow, iwait, igrp⟩ := id I
  obtain ⟨r48, r49, r50, r51, r52, r53⟩ := irow c hc
  refine c_X5_toSwitch hM ⟨by omega, ?_⟩
  simp only [Int.toNat_natCast]
  exact ⟨by omega, by omega, by omega, q⟩
theorem mc_carriedAt {Z : ZT} {d : Nat} {G : GH} {Q : TR → GH → Prop} {m : Nat} {S X : St} {m' s : Int} {b : Bool} (hM : MOK G m) (I : Rg S) (hm : inR m') (hs : inR s) (q : Q (.inl (some (tI (carriedAt S m' s b)))) (pM G m S X)) : TC Z (d + 2) mi_X5_carriedAt [tR (some m), tI m', tI s, tI (b2i b)] (pM G m S X) Q := by
  obtain ⟨⟨i38, i39, i40, i41, i42, i43, i44, i45, i46, i47, i55, i60⟩, irow, iwait, igrp⟩ := id I
  have loop : ∀ k c : Nat, (S 0 47).toNat = c + k → Q (.inl (some (tI (fnd (fun c => decide (S 51 c = m' ∧ endS S c b = s)) k c)))) (pM G m S X) → TW Z mi_X5_carriedAt (d + 2) 3 [some (tR (some m)), some (tI m'), some (tI s), some (tI (b2i b)), some (tI (c : Int))] [] (pM G m S X) Q := by
    intro k
    induction k with
    | zero =>
      intro c hc q
      exact r_X5_carriedAt_3 hM ⟨by omega, by omega, fun _ => q, fun h => by omega⟩
    | succ k ih =>
      intro c hc q
      have rr := irow c (by omega)
      have e1 := fromS_rng rr (by omega)
      have e2 := toS_rng rr (by omega)
      obtain ⟨r48, r49, r50, r51, r52, r53⟩ := rr
      refine r_X5_carriedAt_3 hM ⟨by omega, by omega, fun h => by omega, fun _ => ⟨by omega, ?_⟩⟩
      simp only [Int.toNat_natCast]
      refine ⟨by omega, hm, fun e => ih (c + 1) (by omega) (by simpa [fnd, e] using q), fun e => ?_⟩
      cases b with
      | false => exact ⟨by decide, fun _ => mc_fromSwitch hM I (by omega) (r_X5_carriedAt_42 hM ⟨by omega, hs, fun e' => ih (c + 1) (by omega) (by simpa [fnd, e, e', endS] using q), fun e' => by simpa [fnd, e, e', endS] using q⟩), fun h => absurd rfl h⟩
      | true => exact ⟨by decide, fun h => absurd h (by decide), fun _ => mc_toSwitch hM I (by omega) (r_X5_carriedAt_33 hM ⟨by omega, hs, fun e' => ih (c + 1) (by omega) (by simpa [fnd, e, e', endS] using q), fun e' => by simpa [fnd, e, e', endS] using q⟩)⟩
  exact c_X5_carriedAt hM (loop (S 0 47).toNat 0 (by omega) q)
theorem carriedAt_rng {S : St} {m s : Int} {b : Bool} : -1 ≤ carriedAt S m s b ∧ carriedAt S m s b < (S 0 47).toNat := by have := fnd_rng (p := fun c => decide (S 51 c = m ∧ endS S c b = s)) (S 0 47).toNat 0; simpa [carriedAt] using this
theorem mc_loadOf {Z : ZT} {d : Nat} {G : GH} {Q : TR → GH → Prop} {m : Nat} {S X : St} {m' : Int} (hM : MOK G m) (I : Rg S) (hm : inR m') (q : Q (.inl (some (tI (loadOf S m')))) (pM G m S X)) : TC Z (d + 1) mi_X5_loadOf [tR (some m), tI m'] (pM G m S X) Q := by
  obtain ⟨⟨i38, i39, i40, i41, i42, i43, i44, i45, i46, i47, i55, i60⟩, irow, iwait, igrp⟩ := id I
  have loop : ∀ (k c : Nat) (e : Int), (S 0 47).toNat = c + k → Q (.inl (some (tI (e + sumI (fun c => b2i (decide (S 51 c = m'))) k c)))) (pM G m S X) → TW Z mi_X5_loadOf (d + 1) 4 [some (tR (some m)), some (tI m'), some (tI e), some (tI (c : Int))] [] (pM G m S X) Q := by
    intro k
    induction k with
    | zero =>
      intro c e hc q
      exact r_X5_loadOf_4 hM ⟨by omega, by omega, fun _ => by simpa [sumI] using q, fun h => by omega⟩
    | succ k ih =>
      intro c e hc q
      obtain ⟨r48, r49, r50, r51, r52, r53⟩ := irow c (by omega)
      refine r_X5_loadOf_4 hM ⟨by omega, by omega, fun h => by omega, fun _ => ⟨by omega, ?_⟩⟩
      simp only [Int.toNat_natCast]
      exact ⟨by omega, hm, fun e' => ih (c + 1) _ (by omega) (by simpa [sumI, e', b2i] using q), fun e' => ih (c + 1) _ (by omega) (by simpa [sumI, e', b2i, Int.add_assoc] using q)⟩
  exact c_X5_loadOf hM (loop (S 0 47).toNat 0 0 (by omega) (by simpa [loadOf] using q))
theorem loadOf_rng {S : St} {m : Int} : 0 ≤ loadOf S m ∧ loadOf S m ≤ (S 0 47).toNat := sumI_rng (p := fun c => decide (S 51 c = m)) _ _
theorem mc_callsAt {Z : ZT} {d : Nat} {G : GH} {Q : TR → GH → Prop} {m : Nat} {S X : St} {s : Int} {b : Bool} (hM : MOK G m) (I : Rg S) (hs : inR s) (q : Q (.inl (some (tI (callsAtS S s b)))) (pM G m S X)) : TC Z (d + 2) mi_X5_callsAt [tR (some m), tI s, tI (b2i b)] (pM G m S X) Q := by
  obtain ⟨⟨i38, i39, i40, i41, i42, i43, i44, i45, i46, i47, i55, i60⟩, irow, iwait, igrp⟩ := id I
  have loop : ∀ (k c : Nat) (e : Int), (S 0 47).toNat = c + k → Q (.inl (some (tI (e + sumI (fun c => b2i (decide (endS S c b = s))) k c)))) (pM G m S X) → TW Z mi_X5_callsAt (d + 2) 5 [some (tR (some m)), some (tI s), some (tI (b2i b)), some (tI e), some (tI (c : Int))] [] (pM G m S X) Q := by
    intro k
    induction k with
    | zero =>
      intro c e hc q
      exact r_X5_callsAt_5 hM ⟨by omega, by omega, fun _ => by simpa [sumI] using q, fun h => by omega⟩
    | succ k ih =>
      intro c e hc q
      have rr := irow c (by omega)
      have e1 := fromS_rng rr (by omega)
      have e2 := toS_rng rr (by omega)
      refine r_X5_callsAt_5 hM ⟨by omega, by omega, fun h => by omega, fun _ => ?_⟩
      cases b with
      | false => exact ⟨by decide, fun _ => mc_fromSwitch hM I (by omega) (r_X5_callsAt_34 hM ⟨by omega, hs, fun e' => ih (c + 1) _ (by omega) (by simpa [sumI, e', b2i, endS] using q), fun e' => ih (c + 1) _ (by omega) (by simpa [sumI, e', b2i, endS, Int.add_assoc] using q)⟩), fun h => absurd rfl h⟩
      | true => exact ⟨by decide, fun h => absurd h (by decide), fun _ => mc_toSwitch hM I (by omega) (r_X5_callsAt_25 hM ⟨by omega, hs, fun e' => ih (c + 1) _ (by omega) (by simpa [sumI, e', b2i, endS] using q), fun e' => ih (c + 1) _ (by omega) (by simpa [sumI, e', b2i, endS, Int.add_assoc] using q)⟩)⟩
  exact c_X5_callsAt hM (loop (S 0 47).toNat 0 0 (by omega) (by simpa [callsAtS] using q))
theorem iand_rng (x y : Int) : inR (iand x y) := by have h := (Int32.ofInt x &&& Int32.ofInt y).minValue_le_toInt; have h2 := (Int32.ofInt x &&& Int32.ofInt y).toInt_le; exact ⟨by simpa [iand] using h, by unfold iand; exact h2⟩
theorem mc_isCut {Z : ZT} {d : Nat} {G : GH} {Q : TR → GH → Prop} {m : Nat} {S X : St} {k : Int} (hM : MOK G m) (q : Q (.inl (some (tI (b2i (isCutB S k))))) (pM G m S X)) : TC Z (d + 1) mi_X5_isCut [tR (some m), tI k] (pM G m S X) Q :=
  c_X5_isCut hM ⟨iand_rng _ _, fun e => by simpa [isCutB, b2i, e] using q, fun e => by simpa [isCutB, b2i, e] using q⟩
theorem mc_inOrder {Z : ZT} {d : Nat} {G : GH} {Q : TR → GH → Prop} {m : Nat} {S X : St} (hM : MOK G m) (I : Rg S) (q : Q (.inl (some (tI (inOrd S)))) (pM G m S X)) : TC Z (d + 2) mi_X5_inOrder [tR (some m)] (pM G m S X) Q := by
  obtain ⟨⟨i38, i39, i40, i41, i42, i43, i44, i45, i46, i47, i55, i60⟩, irow, iwait, igrp⟩ := id I
  have loop : ∀ (k c : Nat) (e : Int), (S 0 40).toNat = c + k → Q (.inl (some (tI (e + sumI (fun k => b2i (!isCutB S k)) k c)))) (pM G m S X) → TW Z mi_X5_inOrder (d + 2) 4 [some (tR (some m)), some (tI e), some (tI (c : Int))] [] (pM G m S X) Q := by
    intro k
    induction k with
    | zero =>
      intro c e hc q
      exact r_X5_inOrder_4 hM ⟨by omega, by omega, fun _ => by simpa [sumI] using q, fun h => by omega⟩
    | succ k ih =>
      intro c e hc q
      refine r_X5_inOrder_4 hM ⟨by omega, by omega, fun h => by omega, fun _ => mc_isCut hM (r_X5_inOrder_18 hM ?_)⟩
      cases hb : isCutB S (c : Int) with
      | false => exact ⟨by decide, fun _ => ih (c + 1) _ (by omega) (by simpa [sumI, hb, b2i, Int.add_assoc] using q), fun h => absurd rfl h⟩
      | true => exact ⟨by decide, fun h => absurd h (by decide), fun _ => ih (c + 1) _ (by omega) (by simpa [sumI, hb, b2i] using q)⟩
  exact c_X5_inOrder hM (loop (S 0 40).toNat 0 0 (by omega) (by simpa [inOrd] using q))
theorem inOrd_rng {S : St} : 0 ≤ inOrd S ∧ inOrd S ≤ (S 0 40).toNat := sumI_rng (p := fun k => !isCutB S k) _ _
theorem mc_isThere {Z : ZT} {d : Nat} {G : GH} {Q : TR → GH → Prop} {m : Nat} {S X : St} {k low : Int} (hM : MOK G m) (hk : 0 ≤ k ∧ k < 100) (hl : inR low) (q : Q (.inl (some (tI (b2i (isThereB S k low))))) (pM G m S X)) : TC Z (d + 2) mi_X5_isThere [tR (some m), tI k, tI low] (pM G m S X) Q := by
  have loop : ∀ (r c : Nat) (e : Int), k.toNat = c + r → 0 ≤ e ∧ e ≤ c → Q (.inl (some (tI (b2i (!isCutB S k && decide (e + sumI (fun k => b2i (!isCutB S k)) r c < low)))))) (pM G m S X) → TW Z mi_X5_isThere (d + 2) 5 [some (tR (some m)), some (tI k), some (tI low), some (tI e), some (tI (c : Int))] [] (pM G m S X) Q := by
    intro r
    induction r with
    | zero =>
      intro c e hc he q
      refine r_X5_isThere_5 hM ⟨by omega, by omega, fun _ => mc_isCut hM (r_X5_isThere_39 hM ?_), fun h => by omega⟩
      cases hb : isCutB S k with
      | false => exact ⟨by decide, fun h => absurd rfl h, fun _ => ⟨by omega, hl, fun e' => by simpa [sumI, hb, b2i, show ¬ e < low by omega] using q, fun e' => by simpa [sumI, hb, b2i, show e < low by omega] using q⟩⟩
      | true => exact ⟨by decide, fun _ => by simpa [hb, b2i] using q, fun h => absurd h (by decide)⟩
    | succ r ih =>
      intro c e hc he q
      refine r_X5_isThere_5 hM ⟨by omega, by omega, fun h => by omega, fun _ => mc_isCut hM (r_X5_isThere_18 hM ?_)⟩
      cases hb : isCutB S (c : Int) with
      | false => exact ⟨by decide, fun _ => ih (c + 1) _ (by omega) (by omega) (by simpa [sumI, hb, b2i, Int.add_assoc] using q), fun h => absurd rfl h⟩
      | true => exact ⟨by decide, fun h => absurd h (by decide), fun _ => ih (c + 1) _ (by omega) (by omega) (by simpa [sumI, hb, b2i] using q)⟩
  exact c_X5_isThere hM (loop k.toNat 0 0 (by omega) (by omega) (by simpa [isThereB] using q))
theorem mc_isOpen {Z : ZT} {d : Nat} {G : GH} {Q : TR → GH → Prop} {m : Nat} {S X : St} {k i j low : Int} (hM : MOK G m) (I : Rg S) (hk : 0 ≤ k ∧ k < 100) (hi : inR i) (hj : inR j) (hl : inR low) (q : Q (.inl (some (tI (b2i (isOpenB S k i j low))))) (pM G m S X)) : TC Z (d + 3) mi_X5_isOpen [tR (some m), tI k, tI i, tI j, tI low] (pM G m S X) Q := by
  obtain ⟨⟨i38, i39, i40, i41, i42, i43, i44, i45, i46, i47, i55, i60⟩, irow, iwait, igrp⟩ := id I
  have h1 := carriedAt_rng (S := S) (m := k) (s := i) (b := false)
  have h2 := carriedAt_rng (S := S) (m := k) (s := j) (b := true)
  refine c_X5_isOpen hM (mc_isThere hM hk hl (r_X5_isOpen_7 hM ?_))
  cases hb : isThereB S k low with
  | false => exact ⟨by decide, fun _ => by simpa [isOpenB, hb, b2i] using q, fun h => absurd rfl h⟩
  | true =>
    refine ⟨by decide, fun h => absurd h (by decide), fun _ => mc_carriedAt (b := false) hM I (by omega) hi (r_X5_isOpen_17 hM ⟨by omega, fun e => by simpa [isOpenB, hb, e, b2i] using q, fun e => mc_carriedAt (b := true) hM I (by omega) hj (r_X5_isOpen_28 hM ⟨by omega, fun e' => ?_, fun e' => ?_⟩)⟩)⟩
    · simpa [isOpenB, hb, e, e', b2i] using q
    · simpa [isOpenB, hb, e, e', b2i] using q
theorem huntM_rng {S : St} (I : Rg S) {rule : Int} {k : Nat} (hk : k < (S 0 40).toNat) : 0 ≤ huntM S rule k ∧ huntM S rule k < S 0 40 := by
  obtain ⟨⟨i38, i39, i40, i41, i42, i43, i44, i45, i46, i47, i55, i60⟩, irow, iwait, igrp⟩ := id I
  unfold huntM
  split
  · exact ⟨Int.tmod_nonneg _ (by omega), Int.tmod_lt_of_pos _ (by omega)⟩
  · omega
theorem mc_hunted {Z : ZT} {d : Nat} {G : GH} {Q : TR → GH → Prop} {m : Nat} {S X : St} {i j rule low : Int} (hM : MOK G m) (I : Rg S) (hi : inR i) (hj : inR j) (hr : inR rule) (hl : inR low) (q : Q (.inl (some (tI (hunted S i j rule low)))) (pM G m S X)) : TC Z (d + 4) mi_X5_hunted [tR (some m), tI i, tI j, tI rule, tI low] (pM G m S X) Q := by
  obtain ⟨⟨i38, i39, i40, i41, i42, i43, i44, i45, i46, i47, i55, i60⟩, irow, iwait, igrp⟩ := id I
  have loop : ∀ (r k : Nat) (best : Int) (o : Option Value), (S 0 40).toNat = k + r → -1 ≤ best ∧ best < 100 → Q (.inl (some (tI (huntL S i j rule low r k best)))) (pM G m S X) → TW Z mi_X5_hunted (d + 4) 6 [some (tR (some m)), some (tI i), some (tI j), some (tI rule), some (tI low), some (tI best), some (tI (k : Int)), o] [] (pM G m S X) Q := by
    intro r
    induction r with
    | zero =>
      intro k best o hc hb q
      exact r_X5_hunted_6 hM ⟨by omega, by omega, fun _ => q, fun h => by omega⟩
    | succ r ih =>
      intro k best o hc hb q
      have hmr := huntM_rng I (rule := rule) (k := k) (by omega)
      have go : ∀ (b' : Int), -1 ≤ b' ∧ b' < 100 → Q (.inl (some (tI (huntL S i j rule low r (k + 1) b')))) (pM G m S X) → TW Z mi_X5_hunted (d + 4) 84 [some (tR (some m)), some (tI i), some (tI j), some (tI rule), some (tI low), some (tI b'), some (tI (k : Int)), some (tI (huntM S rule k))] [] (pM G m S X) Q := fun b' hb' q' => r_X5_hunted_84 hM (ih (k + 1) b' _ (by omega) hb' q')
      have mid : TC Z (d + 3) mi_X5_isOpen [tR (some m), tI (huntM S rule k), tI i, tI j, tI low] (pM G m S X) (KQ Z mi_X5_hunted (d + 4) 48 51 [some (tR (some m)), some (tI i), some (tI j), some (tI rule), some (tI low), some (tI best), some (tI (k : Int)), some (tI (huntM S rule k))] [] Q) := by
        refine mc_isOpen hM I (by omega) hi hj hl (r_X5_hunted_51 hM ?_)
        have l1 := loadOf_rng (S := S) (m := best)
        have l2 := loadOf_rng (S := S) (m := huntM S rule k)
        cases ho : isOpenB S (huntM S rule k) i j low with
        | false => exact ⟨by decide, fun _ => go _ hb (by simpa [huntL, ho] using q), fun h => absurd rfl h⟩
        | true =>
          refine ⟨by decide, fun h => absurd h (by decide), fun _ => ⟨by omega, fun e => go _ (by omega) (by simpa [huntL, ho, e] using q), fun e => ⟨hr, fun e' => go _ hb (by simpa [huntL, ho, e, e'] using q), fun e' => ?_⟩⟩⟩
          refine mc_loadOf hM I (by omega) (r_X5_hunted_71 hM (mc_loadOf hM I (by omega) (r_X5_hunted_77 hM ⟨by omega, by omega, fun l => go _ hb ?_, fun l => go _ (by omega) ?_⟩)))
          · subst e'
            simpa [huntL, ho, e, show ¬ loadOf S best < loadOf S (huntM S 1 k) by omega] using q
          · subst e'
            simpa [huntL, ho, e, show loadOf S best < loadOf S (huntM S 1 k) by omega] using q
      refine r_X5_hunted_6 hM ⟨by omega, by omega, fun h => by omega, fun _ => ⟨hr, fun e => ?_, fun e => ⟨by omega, by omega, ?_⟩⟩⟩
      · rw [show huntM S rule k = (k : Int) from if_neg e] at mid
        exact mid
      · rw [show huntM S rule k = (S 0 45 + 1 + (k : Int)).tmod (S 0 40) from if_pos e] at mid
        exact mid
  exact c_X5_hunted hM (loop (S 0 40).toNat 0 (-1) none (by omega) (by omega) (by simpa [hunted] using q))
theorem huntL_rng {S : St} (I : Rg S) {i j rule low : Int} : ∀ (r k : Nat) (best : Int), (S 0 40).toNat = k + r → -1 ≤ best ∧ best < S 0 40 → -1 ≤ huntL S i j rule low r k best ∧ huntL S i j rule low r k best < S 0 40 := by
  intro r
  induction r with
  | zero => intro k best _ hb; exact hb
  | succ r ih =>
    intro k best hc hb
    simp only [huntL]
    have := huntM_rng I (rule := rule) (k := k) (by omega)
    split
    · exact ih _ _ (by omega) (by omega)
    · exact ih _ _ (by omega) hb
theorem hunted_rng {S : St} (I : Rg S) {i j rule low : Int} : -1 ≤ hunted S i j rule low ∧ hunted S i j rule low < S 0 40 := by
  obtain ⟨⟨i38, i39, i40, i41, i42, i43, i44, i45, i46, i47, i55, i60⟩, irow, iwait, igrp⟩ := id I
  exact huntL_rng I _ _ _ (by omega) (by omega)
/-- a walk: the trial row holds the places -/
theorem mc_walk {Z : ZT} {d : Nat} {G : GH} {Q : TR → GH → Prop} {m : Nat} {S X : St} {p q' i j : Int} {b : Bool} (hM : MOK G m) (I : Rg S) (hp : 0 ≤ p ∧ p < 9) (hq : 0 ≤ q' ∧ q' < 9) (hi : inR i) (hj : inR j) (hlen : (walkS S p q' i j b).length ≤ 20)
    (q : ∀ X' : St, (∀ f c : Nat, f ≠ 71 → X' f c = X f c) → (∀ (n : Nat) (h : n < (walkS S p q' i j b).length), X' 71 n = ((walkS S p q' i j b)[n] : Nat)) → Q (.inl (some (tI (walkS S p q' i j b).length))) (pM G m S X')) : TC Z (d + 3) mi_X5_walk [tR (some m), tI p, tI q', tI i, tI j, tI (b2i b)] (pM G m S X) Q := by
  obtain ⟨⟨i38, i39, i40, i41, i42, i43, i44, i45, i46, i47, i55, i60⟩, irow, iwait, igrp⟩ := id I
  have loop : ∀ (r : Nat) (c : Int) (g : Bool) (X1 : St) (n : Nat) (o : Option Value), -1 ≤ c ∧ c < (S 0 47).toNat → (walkL S p q' r c g).length + n ≤ 20 → 20 < n + r → (∀ f c : Nat, f ≠ 71 → X1 f c = X f c) →
      (∀ X' : St, (∀ f c : Nat, f ≠ 71 → X' f c = X f c) → (∀ k : Nat, k < n → X' 71 k = X1 71 k) → (∀ (k : Nat) (h : k < (walkL S p q' r c g).length), X' 71 (n + k) = ((walkL S p q' r c g)[k] : Nat)) → Q (.inl (some (tI ((n + (walkL S p q' r c g).length : Nat) : Int)))) (pM G m S X')) →
      TW Z mi_X5_walk (d + 3) 40 [some (tR (some m)), some (tI p), some (tI q'), some (tI i), some (tI j), some (tI (b2i b)), some (tI (n : Int)), some (tI c), some (tI (b2i g)), o] [] (pM G m S X1) Q := by
    intro r
    induction r with
    | zero => intro c g X1 n o hc hn hr; omega
    | succ r ih =>
      intro c g X1 n o hc hn hr hX q
      refine r_X5_walk_40 hM ⟨by omega, fun e => ?_, fun e => ?_⟩
      · have := q X1 hX (fun _ _ => rfl) (fun k h => by simp [walkL, e] at h)
        simpa [walkL, e] using this
      · obtain ⟨c', rfl⟩ : ∃ c' : Nat, c = (c' : Int) := ⟨c.toNat, by omega⟩
        have rr := irow c' (by omega)
        have e1 := fromS_rng rr (by omega)
        have e2 := toS_rng rr (by omega)
        obtain ⟨r48, r49, r50, r51, r52, r53⟩ := rr
        have hl : walkL S p q' (r + 1) (c' : Int) g = c' :: walkL S p q' r (carriedAt S (if S 51 c' = p then q' else p) (endS S c' g) g) (!g) := by simp [walkL, e]
        rw [hl] at hn q
        simp only [List.length_cons] at hn q
        simp only [Int.toNat_natCast]
        refine ⟨by omega, by omega, by omega, by omega, ?_⟩
        have hX2 : ∀ f c : Nat, f ≠ 71 → up2 X1 71 n (c' : Int) f c = X f c := fun f c hf => (up2_ne (Or.inl hf)).trans (hX f c hf)
        have go : ∀ (nx : Int) (o : Option Value), -1 ≤ nx ∧ nx < (S 0 47).toNat → nx = carriedAt S (if S 51 c' = p then q' else p) (endS S c' g) g →
            TW Z mi_X5_walk (d + 3) 40 [some (tR (some m)), some (tI p), some (tI q'), some (tI i), some (tI j), some (tI (b2i b)), some (tI ((n : Int) + 1)), some (tI nx), some (tI (b2i (!g))), o] [] (pM G m S (up2 X1 71 n (c' : Int))) Q := by
          intro nx o hnx he
          subst he
          refine ih _ (!g) _ (n + 1) o hnx (by omega) (by omega) hX2 (fun X' h1 h2 h3 => ?_)
          have := q X' h1 (fun k hk => (h2 k (by omega)).trans (up2_ne (Or.inr (by omega)))) (fun k hk => ?_)
          · rw [show n + ((walkL S p q' r (carriedAt S (if S 51 c' = p then q' else p) (endS S c' g) g) (!g)).length + 1) = n + 1 + (walkL S p q' r (carriedAt S (if S 51 c' = p then q' else p) (endS S c' g) g) (!g)).length by omega] at this
            exact this
          · cases k with
            | zero => exact (h2 n (by omega)).trans up2_at
            | succ k =>
              have := h3 k (by simpa using hk)
              rw [show n + 1 + k = n + (k + 1) by omega] at this
              simpa using this
        have cr := carriedAt_rng (S := S) (m := if S 51 c' = p then q' else p) (s := endS S c' g) (b := g)
        have tail : ∀ (o' : Int) (w : Int), o' = (if S 51 c' = p then q' else p) → w = endS S c' g → 
            TC Z (d + 2) mi_X5_carriedAt [tR (some m), tI o', tI w, tI (b2i g)] (pM G m S (up2 X1 71 n (c' : Int))) (KQ Z mi_X5_walk (d + 3) 101 104 [some (tR (some m)), some (tI p), some (tI q'), some (tI i), some (tI j), some (tI (b2i b)), some (tI ((n : Int) + 1)), some (tI (c' : Int)), some (tI (b2i g)), some (tI o')] [] Q) := by
          intro o' w h1 h2
          subst h1 h2
          have er := endS_rng (b := g) (irow c' (by omega)) (by omega)
          refine mc_carriedAt hM I (by split <;> omega) (by omega) (r_X5_walk_104 hM ?_)
          cases g with
          | false => exact ⟨by decide, fun h => absurd rfl h, fun _ => go _ _ cr rfl⟩
          | true => exact ⟨by decide, fun _ => go _ _ cr rfl, fun h => absurd h (by decide)⟩
        refine ⟨fun e5 => ?_, fun e5 => ?_⟩
        · cases g with
          | false => exact ⟨by decide, fun _ => mc_fromSwitch hM I (by omega) (r_X5_walk_99 hM (tail _ _ (by rw [if_neg e5]) rfl)), fun h => absurd rfl h⟩
          | true => exact ⟨by decide, fun h => absurd h (by decide), fun _ => mc_toSwitch hM I (by omega) (r_X5_walk_90 hM (tail _ _ (by rw [if_neg e5]) rfl))⟩
        · cases g with
          | false => exact ⟨by decide, fun _ => mc_fromSwitch hM I (by omega) (r_X5_walk_99 hM (tail _ _ (by rw [if_pos e5]) rfl)), fun h => absurd rfl h⟩
          | true => exact ⟨by decide, fun h => absurd h (by decide), fun _ => mc_toSwitch hM I (by omega) (r_X5_walk_90 hM (tail _ _ (by rw [if_pos e5]) rfl))⟩
  have fin : ∀ (g : Bool) (c : Int) (o : Option Value), g = !b → c = (if b = true then carriedAt S p j true else carriedAt S q' i false) → TW Z mi_X5_walk (d + 3) 40 [some (tR (some m)), some (tI p), some (tI q'), some (tI i), some (tI j), some (tI (b2i b)), some (tI 0), some (tI c), some (tI (b2i g)), o] [] (pM G m S X) Q := by
    intro g c o h1 h2
    subst h1 h2
    have hb : walkS S p q' i j b = walkL S p q' 21 (if b = true then carriedAt S p j true else carriedAt S q' i false) (!b) := rfl
    rw [hb] at hlen q
    refine loop 21 _ (!b) X 0 o (by split <;> exact carriedAt_rng) (by omega) (by omega) (fun _ _ _ => rfl) (fun X' h1 _ h3 => ?_)
    rw [Nat.zero_add]
    exact q X' h1 (fun n h => by have := h3 n h; rwa [Nat.zero_add] at this)
  refine c_X5_walk hM ?_
  cases b with
  | false =>
    exact ⟨by decide, fun _ => mc_carriedAt (b := false) hM I (by omega) hi (r_X5_walk_26 hM ⟨by decide, fun h => absurd rfl h, fun _ => fin true _ none rfl rfl⟩), fun h => absurd rfl h⟩
  | true =>
    exact ⟨by decide, fun h => absurd h (by decide), fun _ => mc_carriedAt (b := true) hM I (by omega) hj (r_X5_walk_16 hM ⟨by decide, fun _ => fin false _ none rfl rfl, fun h => absurd h (by decide)⟩)⟩
