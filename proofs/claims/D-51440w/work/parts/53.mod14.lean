/-! THE MODEL'S METHODS, 14: what is read -/
/-- a failure: what, where -/
def Xe (X X' : St) (e : Int × Int) : Prop := X' 0 34 = e.1 ∧ X' 0 35 = e.2 ∧ ∀ f c : Nat, f ≠ 70 → f ≠ 71 → f ≠ 76 → f ≠ 82 → (f ≠ 0 ∨ ((c < 72 ∨ 81 < c) ∧ c ≠ 34 ∧ c ≠ 35)) → X' f c = X f c
theorem Xd.e {X Y W : St} {e : Int × Int} (h : Xd X Y) (k : Xe Y W e) : Xe X W e := ⟨k.1, k.2.1, fun f c h1 h2 h3 h4 h5 => (k.2.2 f c h1 h2 h3 h4 h5).trans (h f c h1 h2 h3 h4 (by omega))⟩
theorem mc_blames {Z : ZT} {d : Nat} {G : GH} {Q : TR → GH → Prop} {m : Nat} {S X : St} {w : Int} (hM : MOK G m) (q : ∀ X', Xe X X' (w, X 0 78) → Q (.inl (some (tI 0))) (pM G m S X')) : TC Z (d + 1) mi_X5_blames [tR (some m), tI w] (pM G m S X) Q :=
  c_X5_blames hM (q _ ⟨by rw [up2_ne (Or.inr (by decide)), up2_at], up2_at, fun f c _ _ _ _ h5 => by rw [up2_ne (by omega), up2_ne (by omega)]⟩)
theorem mc_spelled {Z : ZT} {d : Nat} {G : GH} {Q : TR → GH → Prop} {m : Nat} {S X : St} {B : Nat → Int} {n : Nat} {k : Nat} (hM : MOK G m) (R : RX B n X) (hk : k ≤ n) (T : Tk B n k X) (q : Q (.inl (some (tL (spellK B n k)))) (pM G m S X)) : TC Z (d + 1) mi_X5_spelled [tR (some m)] (pM G m S X) Q := by
  obtain ⟨t77, t78, t79, t80, t81⟩ := T
  obtain ⟨g32, g33, hn6, hb⟩ := R
  have kr := tK_rng (B := B) (n := n) (k := k)
  have lr := tkL_rng (B := B) hk
  have er := tE_rng (B := B) hk
  unfold spellK at q
  refine c_X5_spelled hM ⟨by omega, fun h => ?_, fun h => ⟨by omega, fun h2 => ?_, fun h2 => ?_⟩⟩
  · rw [if_neg (fun z => h (t79.trans z.1))] at q; exact q
  · have h1 : tK B n k = 1 := t79.symm.trans h
    have h12 : tkL B n k ≤ 12 := by omega
    rw [if_pos ⟨h1, h12⟩] at q
    have hW : ∀ i, i < tE B n k - tS B n k → (tW B n k)[i]? = some (B (tS B n k + i)) := fun i hi => by
      unfold tW
      rw [List.getElem?_map, List.getElem?_range hi]
      rfl
    have loop : ∀ (r i : Nat) (v : Int) (o : Option Value), i + r = tE B n k - tS B n k → v = spell ((tW B n k).take i) → TW Z mi_X5_spelled (d + 1) 26 [some (tR (some m)), some (tL v), o, some (tI ((tS B n k + i : Nat) : Int))] [] (pM G m S X) Q := by
      intro r
      induction r with
      | zero =>
        intro i v o hi hv
        have hv : v = spell (tW B n k) := by rw [hv, List.take_of_length_le (by rw [tW_len]; omega)]
        rw [← hv] at q
        exact r_X5_spelled_26 hM ⟨by omega, by omega, fun _ => q, fun h => by omega⟩
      | succ r ih =>
        intro i v o hi hv
        have hbi := hb (tS B n k + i)
        refine r_X5_spelled_26 hM ⟨by omega, by omega, fun h => by omega, fun _ => ⟨by omega, ?_⟩⟩
        rw [Int.toNat_natCast, g32]
        refine ⟨by omega, ih (i + 1) _ none (by omega) ?_⟩
        have e : (tW B n k).take (i + 1) = (tW B n k).take i ++ [B (tS B n k + i)] := by
          rw [List.take_add_one, hW i (by omega)]
          rfl
        rw [e, spell_snoc, ← hv]
    rw [t78]
    exact loop (tE B n k - tS B n k) 0 0 none (by omega) rfl
  · rw [if_neg (fun z => h2 (by omega))] at q; exact q
/-- comparing a word -/
theorem lsgn_iff {x y : Int} : lsgn x y = 0 ↔ x = y := by
  unfold lsgn
  by_cases h1 : y < x
  · rw [if_pos h1]; constructor <;> intro h <;> omega
  · rw [if_neg h1]
    by_cases h2 : x = y
    · rw [if_pos h2]; exact ⟨fun _ => h2, fun _ => rfl⟩
    · rw [if_neg h2]; constructor <;> intro h <;> omega
theorem lsgn_rng {x y : Int} : inR (lsgn x y) := by unfold lsgn; split <;> (try split) <;> decide
theorem word_iff {k : Nat} {B : Nat → Int} {n : Nat} {w : List Int} {v : Int} (hv : v = spell w) (hw : ∀ b ∈ w, 97 ≤ b ∧ b ≤ 122) (h0 : w ≠ []) (h12 : w.length ≤ 12) : lsgn (spellK B n k) v = 0 ↔ isW B n k w = true := by rw [lsgn_iff, hv]; exact spellK_iff hw h0 h12
theorem mc_isNumber {Z : ZT} {d : Nat} {G : GH} {Q : TR → GH → Prop} {m : Nat} {S X : St} {B : Nat → Int} {n : Nat} {k : Nat} {lo hi : Int} (hM : MOK G m) (hk : k ≤ n) (T : Tk B n k X) (hlo : inR lo) (hhi : inR hi) (qe : ∀ e X', numR B n k lo hi = .inl e → Xe X X' e → Q (.inl (some (tI 0))) (pM G m S X')) (qg : numR B n k lo hi = .inr (tV B n k, tE B n k) → Q (.inl (some (tI 1))) (pM G m S X)) : TC Z (d + 2) mi_X5_isNumber [tR (some m), tI lo, tI hi] (pM G m S X) Q := by
  obtain ⟨t77, t78, t79, t80, t81⟩ := T
  have kr := tK_rng (B := B) (n := n) (k := k)
  have vr := tV_rng (B := B) (n := n) (k := k)
  unfold numR at qe qg
  by_cases hK : tK B n k = 2
  · rw [if_pos hK] at qe qg
    have bad : ¬ (lo ≤ tV B n k ∧ tV B n k ≤ hi) → TC Z (d + 1) mi_X5_blames [tR (some m), tI 2] (pM G m S X) (KQ Z mi_X5_isNumber (d + 2) 32 35 [some (tR (some m)), some (tI lo), some (tI hi)] [] Q) := fun hn => by
      rw [if_neg hn] at qe
      exact mc_blames hM (fun X' h => r_X5_isNumber_35 hM ⟨by decide, fun _ => qe _ X' rfl (by rw [t78] at h; exact h), fun h => absurd rfl h⟩)
    refine c_X5_isNumber hM ⟨by omega, fun _ => ⟨by omega, hlo, fun h => bad (by omega), fun h => ⟨hhi, fun h2 => ?_, fun h2 => bad (by omega)⟩⟩, fun h => absurd (t79.trans hK) h⟩
    rw [if_pos (by omega)] at qg
    exact qg rfl
  · rw [if_neg hK] at qe
    exact c_X5_isNumber hM ⟨by omega, fun h => absurd (t79.symm.trans h) hK, fun _ => mc_blames hM (fun X' h => r_X5_isNumber_13 hM ⟨Or.inl rfl, qe _ X' rfl (by rw [t78] at h; exact h)⟩)⟩
theorem mc_readsNumber {Z : ZT} {d : Nat} {G : GH} {Q : TR → GH → Prop} {m : Nat} {S X : St} {B : Nat → Int} {n : Nat} {k : Nat} {lo hi : Int} (hM : MOK G m) (R : RX B n X) (h77 : X 0 77 = (k : Int)) (hk : k ≤ n) (hlo : inR lo) (hhi : inR hi) (qe : ∀ e X', numR B n k lo hi = .inl e → Xe X X' e → Q (.inl (some (tI 0))) (pM G m S X')) (qg : numR B n k lo hi = .inr (tV B n k, tE B n k) → ∀ X', Xd X X' → Tk B n k X' → Q (.inl (some (tI 1))) (pM G m S X')) : TC Z (d + 3) mi_X5_readsNumber [tR (some m), tI lo, tI hi] (pM G m S X) Q :=
  c_X5_readsNumber hM (mc_token hM R h77 hk (fun X1 hX1 hT1 => r_X5_readsNumber_4 hM (mc_isNumber hM hk hT1 hlo hhi (fun e X2 he hX2 => r_X5_readsNumber_10 hM ⟨Or.inl rfl, qe e X2 he (hX1.e hX2)⟩) (fun he => r_X5_readsNumber_10 hM ⟨Or.inr rfl, qg he X1 hX1 hT1⟩))))
theorem mc_isSemicolon {Z : ZT} {d : Nat} {G : GH} {Q : TR → GH → Prop} {m : Nat} {S X : St} {B : Nat → Int} {n : Nat} {k : Nat} (hM : MOK G m) (T : Tk B n k X) (qe : ∀ e X', semR B n k = .inl e → Xe X X' e → Q (.inl (some (tI 0))) (pM G m S X')) (qg : semR B n k = .inr (tE B n k) → Q (.inl (some (tI 1))) (pM G m S X)) : TC Z (d + 2) mi_X5_isSemicolon [tR (some m)] (pM G m S X) Q := by
  obtain ⟨t77, t78, t79, t80, t81⟩ := T
  have kr := tK_rng (B := B) (n := n) (k := k)
  unfold semR at qe qg
  by_cases hK : tK B n k = 3
  · rw [if_pos hK] at qg
    exact c_X5_isSemicolon hM ⟨by omega, fun _ => qg rfl, fun h => absurd (t79.trans hK) h⟩
  · rw [if_neg hK] at qe
    exact c_X5_isSemicolon hM ⟨by omega, fun h => absurd (t79.symm.trans h) hK, fun _ => mc_blames hM (fun X' h => r_X5_isSemicolon_13 hM ⟨by decide, fun _ => qe _ X' rfl (by rw [t78] at h; exact h), fun h => absurd rfl h⟩)⟩
theorem mc_readsSemicolon {Z : ZT} {d : Nat} {G : GH} {Q : TR → GH → Prop} {m : Nat} {S X : St} {B : Nat → Int} {n : Nat} {k : Nat} (hM : MOK G m) (R : RX B n X) (h77 : X 0 77 = (k : Int)) (hk : k ≤ n) (qe : ∀ e X', semR B n k = .inl e → Xe X X' e → Q (.inl (some (tI 0))) (pM G m S X')) (qg : semR B n k = .inr (tE B n k) → ∀ X', Xd X X' → X' 0 77 = (tE B n k : Int) → Q (.inl (some (tI 1))) (pM G m S X')) : TC Z (d + 3) mi_X5_readsSemicolon [tR (some m)] (pM G m S X) Q :=
  c_X5_readsSemicolon hM (mc_token hM R h77 hk (fun X1 hX1 hT1 => r_X5_readsSemicolon_4 hM (mc_isSemicolon hM hT1 (fun e X2 he hX2 => r_X5_readsSemicolon_8 hM ⟨Or.inl rfl, qe e X2 he (hX1.e hX2)⟩) (fun he => r_X5_readsSemicolon_8 hM ⟨Or.inr rfl, qg he X1 hX1 hT1.1⟩))))
theorem subN_rng {S : St} (I : Rg S) : 0 ≤ subN S ∧ subN S ≤ 35 := by
  obtain ⟨⟨i38, i39, i40, i41, i42, i43, i44, i45, i46, i47, i55, i60⟩, irow, iwait, igrp⟩ := id I
  have s36 := sub36 I
  have : 1 * 1 ≤ S 0 38 * S 0 39 := Int.mul_le_mul i38.1 i39.1 (by decide) (by omega)
  unfold subN
  omega
theorem mc_readsSubscriber {Z : ZT} {d : Nat} {G : GH} {Q : TR → GH → Prop} {m : Nat} {S X : St} {B : Nat → Int} {n : Nat} {k : Nat} (hM : MOK G m) (I : Rg S) (R : RX B n X) (h77 : X 0 77 = (k : Int)) (hk : k ≤ n) (qe : ∀ e X', numR B n k 0 (subN S) = .inl e → Xe X X' e → Q (.inl (some (tI 0))) (pM G m S X')) (qg : numR B n k 0 (subN S) = .inr (tV B n k, tE B n k) → ∀ X', Xd X X' → Tk B n k X' → Q (.inl (some (tI 1))) (pM G m S X')) : TC Z (d + 4) mi_X5_readsSubscriber [tR (some m)] (pM G m S X) Q := by
  have sr := subN_rng I
  exact c_X5_readsSubscriber hM (c_X5_subscribers hM (r_X5_readsSubscriber_6 hM (mc_readsNumber hM R h77 hk (by decide) (show inR (subN S) by omega) (fun e X2 he hX2 => r_X5_readsSubscriber_11 hM ⟨Or.inl rfl, qe e X2 he hX2⟩) (fun he X1 hX1 hT1 => r_X5_readsSubscriber_11 hM ⟨Or.inr rfl, qg he X1 hX1 hT1⟩))))
theorem num_in {B : Nat → Int} {n k : Nat} {lo hi : Int} {a : Int × Nat} (h : numR B n k lo hi = .inr a) : lo ≤ a.1 ∧ a.1 ≤ hi ∧ a = (tV B n k, tE B n k) ∧ tK B n k = 2 := by
  unfold numR at h
  split at h
  · split at h
    · rename_i h1 h2
      cases h
      exact ⟨h2.1, h2.2, rfl, h1⟩
    · cases h
  · cases h
theorem sem_in {B : Nat → Int} {n k p : Nat} (h : semR B n k = .inr p) : p = tE B n k ∧ tK B n k = 3 := by
  unfold semR at h
  split at h
  · rename_i h1; cases h; exact ⟨rfl, h1⟩
  · cases h
theorem mc_readsLasts {Z : ZT} {d : Nat} {G : GH} {Q : TR → GH → Prop} {m : Nat} {S X : St} {B : Nat → Int} {n : Nat} {k : Nat} (hM : MOK G m) (R : RX B n X) (h77 : X 0 77 = (k : Int)) (hk : k ≤ n) (qe : ∀ e X', lastsR B n k = .inl e → Xe X X' e → Q (.inl (some (tI 0))) (pM G m S X')) (qg : ∀ v p, lastsR B n k = .inr (v, p) → 0 ≤ v → v ≤ 99 → p ≤ n → ∀ X', Xd X X' → X' 0 77 = (p : Int) → X' 0 81 = v → Q (.inl (some (tI 1))) (pM G m S X')) : TC Z (d + 4) mi_X5_readsLasts [tR (some m)] (pM G m S X) Q := by
  have er := tE_rng (B := B) hk
  refine c_X5_readsLasts hM (mc_token hM R h77 hk (fun X1 hX1 hT1 => r_X5_readsLasts_4 hM (mc_spelled hM (R.d hX1) hk hT1 (r_X5_readsLasts_8 hM ?_))))
  have sk := spellK_rng (B := B) (n := n) (k := k)
  have wi := word_iff (k := k) (B := B) (n := n) (w := wFor) (v := 6642) (by decide) (by decide) (by decide) (by decide)
  refine ⟨by omega, lsgn_rng, fun h => ?_, fun h => ?_⟩
  · have hw := wi.mp h
    unfold lastsR at qe qg
    rw [if_pos hw] at qe qg
    have er2 := tE_rng (B := B) er.2
    refine mc_readsNumber hM (R.d hX1) hT1.1 er.2 (by decide) (by decide) (fun e X2 he hX2 => r_X5_readsLasts_32 hM ⟨by decide, fun h => absurd rfl h, fun _ => qe e X2 (by rw [he]) (hX1.e hX2)⟩) (fun he X2 hX2 hT2 => r_X5_readsLasts_32 hM ⟨by decide, fun _ => ?_, fun h => absurd h (by decide)⟩)
    have nv := num_in he
    rw [he] at qe qg
    dsimp only at qe qg nv
    refine mc_readsSemicolon hM (R.d (hX1.trans hX2)) hT2.1 er2.2 (fun e X3 he2 hX3 => r_X5_readsLasts_46 hM ⟨by decide, fun h => absurd rfl h, fun _ => qe e X3 (by rw [he2]) ((hX1.trans hX2).e hX3)⟩) (fun he2 X3 hX3 h3 => r_X5_readsLasts_46 hM ⟨by decide, fun _ => ?_, fun h => absurd h (by decide)⟩)
    have er3 := tE_rng (B := B) er2.2
    rw [hT2.2.2.2.2]
    exact qg (tV B n (tE B n k)) _ (by rw [he2]) (by omega) (by omega) er3.2 _ (((hX1.trans hX2).trans hX3).up (by decide)) (by rw [up2_ne (Or.inr (by decide))]; exact h3) up2_at
  · have hw : ¬ isW B n k wFor = true := fun z => h (wi.mpr z)
    unfold lastsR at qe qg
    rw [if_neg hw] at qe qg
    have hT2 : Tk B n k (up2 X1 0 81 (tV B n k)) := ⟨(up2_ne (Or.inr (by decide))).trans hT1.1, (up2_ne (Or.inr (by decide))).trans hT1.2.1, (up2_ne (Or.inr (by decide))).trans hT1.2.2.1, (up2_ne (Or.inr (by decide))).trans hT1.2.2.2.1, up2_at⟩
    obtain ⟨t77, t78, t79, t80, t81⟩ := hT1
    have kr := tK_rng (B := B) (n := n) (k := k)
    have e79 : up2 X1 0 81 0 0 79 = tK B n k := (up2_ne (Or.inr (by decide))).trans t79
    have e78 : up2 X1 0 81 0 0 78 = (tS B n k : Int) := (up2_ne (Or.inr (by decide))).trans t78
    have e77 : up2 X1 0 81 0 0 77 = (tE B n k : Int) := (up2_ne (Or.inr (by decide))).trans t77
    unfold semR at qe qg
    by_cases hK : tK B n k = 3
    · rw [if_pos hK] at qg
      exact c_X5_isSemicolon hM ⟨by omega, fun _ => r_X5_readsLasts_24 hM ⟨Or.inr rfl, qg 0 _ rfl (by decide) (by decide) er.2 _ (hX1.up (by decide)) e77 up2_at⟩, fun h => absurd (e79.trans hK) h⟩
    · rw [if_neg hK] at qe
      exact c_X5_isSemicolon hM ⟨by omega, fun h => absurd (e79.symm.trans h) hK, fun _ => mc_blames hM (fun X' h => r_X5_isSemicolon_13 hM ⟨by decide, fun _ => r_X5_readsLasts_24 hM ⟨Or.inl rfl, qe _ X' rfl ((hX1.up (c := 81) (v := 0) (by decide)).e (by rw [e78] at h; exact h))⟩, fun h => absurd rfl h⟩)⟩
theorem allF_step {p : Nat → Bool} {r i : Nat} : allF p (r + 1) i = if p i = true then allF p r (i + 1) else false := rfl
theorem mc_groupOfToken {Z : ZT} {d : Nat} {G : GH} {Q : TR → GH → Prop} {m : Nat} {S X : St} {B : Nat → Int} {n : Nat} {k : Nat} (hM : MOK G m) (V : Inv S) (R : RX B n X) (hk : k ≤ n) (T : Tk B n k X) (hK : tK B n k = 1) (h6 : tkL B n k ≤ 6) (q : Q (.inl (some (tI (grpOf B n S k)))) (pM G m S X)) : TC Z (d + 1) mi_X5_groupOfToken [tR (some m)] (pM G m S X) Q := by
  have I := V.1
  obtain ⟨⟨i38, i39, i40, i41, i42, i43, i44, i45, i46, i47, i55, i60⟩, irow, iwait, igrp⟩ := id I
  obtain ⟨t77, t78, t79, t80, t81⟩ := T
  obtain ⟨g32, g33, hn6, hb⟩ := R
  have lr := tkL_rng (B := B) hk
  have er := tE_rng (B := B) hk
  have el : tkL B n k = ((tE B n k - tS B n k : Nat) : Int) := by unfold tkL; rw [if_pos hK]
  have outer : ∀ (r g : Nat) (o2 o3 : Option Value), g + r = (S 0 60).toNat → fnd (grpEq B n S k) (S 0 60).toNat 0 = fnd (grpEq B n S k) r g → TW Z mi_X5_groupOfToken (d + 1) 2 [some (tR (some m)), some (tI (g : Int)), o2, o3] [] (pM G m S X) Q := by
    intro r
    induction r with
    | zero =>
      intro g o2 o3 hg he
      unfold grpOf at q
      rw [he] at q
      exact r_X5_groupOfToken_2 hM ⟨by omega, by omega, fun _ => q, fun h => by omega⟩
    | succ r ih =>
      intro g o2 o3 hg he
      obtain ⟨g1, g2, g3, g4⟩ := igrp g (by omega)
      simp only [fnd] at he
      have yes : grpEq B n S k g = true → Q (.inl (some (tI (g : Int)))) (pM G m S X) := fun hy => by
        rw [if_pos hy] at he
        unfold grpOf at q
        rw [he] at q
        exact q
      have no : ¬ grpEq B n S k g = true → ∀ o2 o3, TW Z mi_X5_groupOfToken (d + 1) 2 [some (tR (some m)), some (tI ((g : Int) + 1)), o2, o3] [] (pM G m S X) Q := fun hn o2 o3 => by
        rw [if_neg hn] at he
        exact ih (g + 1) o2 o3 (by omega) he
      refine r_X5_groupOfToken_2 hM ⟨by omega, by omega, fun h => by omega, fun _ => ⟨by omega, ?_⟩⟩
      simp only [Int.toNat_natCast]
      have no31 : ¬ grpEq B n S k g = true → ∀ i : Int, TW Z mi_X5_groupOfToken (d + 1) 31 [some (tR (some m)), some (tI (g : Int)), some (tI 0), some (tI i)] [] (pM G m S X) Q := fun hn i =>
        r_X5_groupOfToken_31 hM ⟨by decide, fun _ => ⟨fun _ => no hn _ _, fun h => absurd rfl h⟩, fun h => absurd rfl h⟩
      refine ⟨by omega, by omega, fun h => ?_, fun h => ?_⟩
      · refine no31 (fun hy => ?_) 0
        unfold grpEq at hy
        simp only [Bool.and_eq_true, decide_eq_true_eq] at hy
        omega
      · have inner : ∀ (r' i : Nat), i + r' = (tkL B n k).toNat → grpEq B n S k g = allF (fun i => decide (S 62 (g * 6 + i) = B (tS B n k + i))) r' i → TW Z mi_X5_groupOfToken (d + 1) 31 [some (tR (some m)), some (tI (g : Int)), some (tI 1), some (tI (i : Int))] [] (pM G m S X) Q := by
          intro r'
          induction r' with
          | zero =>
            intro i hi hy
            exact r_X5_groupOfToken_31 hM ⟨by decide, fun h => absurd h (by decide), fun _ => ⟨by omega, by omega, fun _ => ⟨fun h => absurd h (by decide), fun _ => yes (by rw [hy]; rfl)⟩, fun h => by omega⟩⟩
          | succ r' ih' =>
            intro i hi hy
            have hbi := hb (tS B n k + i)
            have hgi := g2 i (by omega)
            rw [allF_step] at hy
            have e1 : ((g : Int) * 6 + (i : Int)).toNat = 6 * g + i := by omega
            have e2 : (X 0 78 + (i : Int)).toNat = tS B n k + i := by omega
            have e3 : g * 6 + i = 6 * g + i := by omega
            rw [e3] at hy
            refine r_X5_groupOfToken_31 hM ⟨by decide, fun h => absurd h (by decide), fun _ => ⟨by omega, by omega, fun h => by omega, fun _ => ⟨by omega, by omega, ?_⟩⟩⟩
            rw [e1, e2, g32]
            refine ⟨by omega, by omega, fun h2 => ?_, fun h2 => ?_⟩
            · rw [if_neg (by simpa using h2)] at hy
              exact no31 (by rw [hy]; decide) _
            · rw [if_pos (by simpa using h2)] at hy
              exact ih' (i + 1) (by omega) hy
        exact inner (tkL B n k).toNat 0 (by omega) (by unfold grpEq; rw [decide_eq_true (by omega), Bool.true_and])
  exact c_X5_groupOfToken hM (outer (S 0 60).toNat 0 _ _ (by omega) rfl)
