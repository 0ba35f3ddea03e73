/-! THE MODEL'S METHODS, 12: input, shares -/
theorem i2b_i2b (x : Int) : i2b (i2b x) = i2b x := by
  unfold i2b
  rw [Int32.ofInt_toInt, Int8.toInt8_toInt32]
theorem ishr_0 (x : Int) : i2b (ishr x 0) = i2b x := by
  unfold i2b ishr
  rw [Int32.ofInt_toInt]
  have : Int32.ofInt x >>> (Int32.ofInt 0 &&& 31) = Int32.ofInt x := by
    show Int32.ofInt x >>> (0 : Int32) = Int32.ofInt x
    simp
  rw [this]
/-- byte t of a number -/
def b4 (x : Int) (t : Nat) : Int := i2b (ishr x (24 - 8 * (t : Int)))
/-- the input's next bytes are those of x -/
theorem mc_fourBytes {Z : ZT} {d : Nat} {G : GH} {Q : TR → GH → Prop} {m : Nat} {S X : St} {x : Int} {n : Nat} (hM : MOK G m) (hn : X 0 33 = (n : Int)) (h : n ≤ 596) (q : ∀ X', X' 0 33 = ((n + 4 : Nat) : Int) → (∀ t, t < 4 → X' 32 (n + t) = b4 x t) → (∀ f c : Nat, (f ≠ 32 ∨ c < n ∨ n + 4 ≤ c) → (f ≠ 0 ∨ c ≠ 33) → X' f c = X f c) → Q (.inl none) (pM G m S X')) : TC Z (d + 1) mi_X5_fourBytes [tR (some m), tI x] (pM G m S X) Q := by
  have e1 : ((n : Int) + 1).toNat = n + 1 := by omega
  have e2 : ((n : Int) + 2).toNat = n + 2 := by omega
  have e3 : ((n : Int) + 3).toNat = n + 3 := by omega
  refine c_X5_fourBytes hM ?_
  rw [hn]
  refine ⟨by omega, by omega, by omega, by omega, ?_⟩
  rw [e1, e2, e3, Int.toNat_natCast, i2b_i2b, i2b_i2b, i2b_i2b, i2b_i2b]
  refine q _ (by rw [up2_at]; rfl) (fun t ht => ?_) (fun f c h1 h2 => ?_)
  · rw [up2_ne (Or.inl (by decide))]
    have : t = 0 ∨ t = 1 ∨ t = 2 ∨ t = 3 := by omega
    rcases this with rfl | rfl | rfl | rfl
    · rw [up2_ne (Or.inr (by omega)), up2_ne (Or.inr (by omega)), up2_ne (Or.inr (by omega)), Nat.add_zero, up2_at]; rfl
    · rw [up2_ne (Or.inr (by omega)), up2_ne (Or.inr (by omega)), up2_at]; rfl
    · rw [up2_ne (Or.inr (by omega)), up2_at]; rfl
    · rw [up2_at]
      show i2b x = i2b (ishr x 0)
      rw [ishr_0]
  · rw [up2_ne (by omega), up2_ne (by omega), up2_ne (by omega), up2_ne (by omega), up2_ne (by omega)]
/-- byte i of what is appended -/
def b20 (a b c d e : Int) (i : Nat) : Int := b4 (if i < 4 then a else if i < 8 then b else if i < 12 then c else if i < 16 then d else e) (i % 4)
def AppC (n : Nat) (by' : Nat → Int) (X X' : St) : Prop := X' 0 31 = 0 ∧ X' 0 33 = ((n + 20 : Nat) : Int) ∧ (∀ i, i < 20 → X' 32 (n + i) = by' i) ∧ ∀ f c : Nat, (f ≠ 32 ∨ c < n ∨ n + 20 ≤ c) → (f ≠ 0 ∨ (c ≠ 31 ∧ c ≠ 33)) → X' f c = X f c
theorem mp_append {Z : ZT} {d : Nat} {G : GH} {Q : TR → GH → Prop} {m : Nat} {S X : St} {x1 x2 x3 x4 x5 : Int} {n : Nat} (hM : MOK G m) (hn : X 0 33 = (n : Int)) (h : n ≤ 600) (q1 : 580 < n → QC G m S X (0, -1) Q) (q0 : n ≤ 580 → ∀ X', AppC n (b20 x1 x2 x3 x4 x5) X X' → Q (.inl (some (tI ((n + 20 : Nat) : Int)))) (pM G m S X')) : TC Z (d + 9) mi_X5_append [tR (some m), tI x1, tI x2, tI x3, tI x4, tI x5] (pM G m S X) Q := by
  refine c_X5_append hM ⟨by omega, fun h1 => ?_, fun h1 => q1 (by omega) S _ Sg.rfl' Xp.a⟩
  have q0 := q0 (by omega)
  have en : up2 X 0 31 0 0 33 = (n : Int) := (up2_ne (Or.inr (by decide))).trans hn
  refine mc_fourBytes hM en (by omega) (fun X1 n1 b1 o1 => r_X5_append_22 hM ?_)
  refine mc_fourBytes hM n1 (by omega) (fun X2 n2 b2 o2 => r_X5_append_27 hM ?_)
  refine mc_fourBytes hM n2 (by omega) (fun X3 n3 b3 o3 => r_X5_append_32 hM ?_)
  refine mc_fourBytes hM n3 (by omega) (fun X4 n4 b4' o4 => r_X5_append_38 hM ?_)
  refine mc_fourBytes hM n4 (by omega) (fun X5 n5 b5 o5 => r_X5_append_44 hM ?_)
  rw [n5]
  refine q0 X5 ⟨?_, n5, fun i hi => ?_, fun f c h1 h2 => ?_⟩
  · rw [o5 0 31 (Or.inl (by decide)) (by decide), o4 0 31 (Or.inl (by decide)) (by decide), o3 0 31 (Or.inl (by decide)) (by decide), o2 0 31 (Or.inl (by decide)) (by decide), o1 0 31 (Or.inl (by decide)) (by decide), up2_at]
  · unfold b20
    by_cases g1 : i < 4
    · rw [if_pos g1, o5 32 _ (by omega) (Or.inl (by decide)), o4 32 _ (by omega) (Or.inl (by decide)), o3 32 _ (by omega) (Or.inl (by decide)), o2 32 _ (by omega) (Or.inl (by decide)), b1 i g1, show i % 4 = i by omega]
    · rw [if_neg g1]
      by_cases g2 : i < 8
      · rw [if_pos g2, o5 32 _ (by omega) (Or.inl (by decide)), o4 32 _ (by omega) (Or.inl (by decide)), o3 32 _ (by omega) (Or.inl (by decide)), show n + i = n + 4 + (i % 4) by omega, b2 _ (by omega)]
      · rw [if_neg g2]
        by_cases g3 : i < 12
        · rw [if_pos g3, o5 32 _ (by omega) (Or.inl (by decide)), o4 32 _ (by omega) (Or.inl (by decide)), show n + i = n + 4 + 4 + (i % 4) by omega, b3 _ (by omega)]
        · rw [if_neg g3]
          by_cases g4 : i < 16
          · rw [if_pos g4, o5 32 _ (by omega) (Or.inl (by decide)), show n + i = n + 4 + 4 + 4 + (i % 4) by omega, b4' _ (by omega)]
          · rw [if_neg g4, show n + i = n + 4 + 4 + 4 + 4 + (i % 4) by omega, b5 _ (by omega)]
  · rw [o5 f c (by omega) (by omega), o4 f c (by omega) (by omega), o3 f c (by omega) (by omega), o2 f c (by omega) (by omega), o1 f c (by omega) (by omega), up2_ne (by omega)]
theorem mp_truncate {Z : ZT} {d : Nat} {G : GH} {Q : TR → GH → Prop} {m : Nat} {S X : St} {v : Int} (hM : MOK G m) (hv : inR v) (h33 : 0 ≤ X 0 33 ∧ X 0 33 ≤ 600) (q1 : ¬ (0 ≤ v ∧ v ≤ X 0 33) → QR G m S X 1 Q) (q0 : 0 ≤ v ∧ v ≤ X 0 33 → Q (.inl (some (tI v))) (pM G m S (up2 (up2 X 0 31 0) 0 33 v))) : TC Z (d + 9) mi_X5_truncate [tR (some m), tI v] (pM G m S X) Q :=
  c_X5_truncate hM ⟨hv, fun h => mc_refuse hM (r_X5_truncate_22 hM (q1 (by omega) _ Xp.b)), fun h => ⟨by omega, fun h2 => q0 ⟨by omega, h2⟩, fun h2 => mc_refuse hM (r_X5_truncate_22 hM (q1 (by omega) _ Xp.b))⟩⟩
def fullV (n k : Int) : UInt32 := if k = 0 then FP.fconst0 else FP.fdiv (FP.i2f (Int32.ofInt n)) (FP.i2f (Int32.ofInt k))
theorem full_num : ∀ k : Fin 55, ∀ n : Fin 19, (fullV (n.val : Int) (k.val : Int) &&& 0x7fffffff ≤ 0x7f800000) ∧ (FP.f2d (fullV (n.val : Int) (k.val : Int)) &&& 0x7fffffffffffffff ≤ 0x7ff0000000000000) := by decide +kernel
theorem full_vf {n k : Int} (hn : 0 ≤ n ∧ n ≤ 18) (hk : 0 ≤ k ∧ k ≤ 54) : vf_n32 (fullV n k) ∧ vf_n64 (FP.f2d (fullV n k)) := by
  have := full_num ⟨k.toNat, by omega⟩ ⟨n.toNat, by omega⟩
  simp only [Int.toNat_of_nonneg hn.1, Int.toNat_of_nonneg hk.1] at this
  exact this
theorem room_rng {S : St} (I : Rg S) : 0 ≤ inOrd S * S 0 38 ∧ inOrd S * S 0 38 ≤ 54 := by
  obtain ⟨⟨i38, i39, i40, i41, i42, i43, i44, i45, i46, i47, i55, i60⟩, irow, iwait, igrp⟩ := id I
  have io := inOrd_rng (S := S)
  have h1 : inOrd S * S 0 38 ≤ 9 * 6 := Int.mul_le_mul (by omega) i38.2 (by omega) (by decide)
  have h2 : 0 ≤ inOrd S * S 0 38 := Int.mul_nonneg io.1 (by omega)
  omega
theorem mp_fullness {Z : ZT} {d : Nat} {G : GH} {Q : TR → GH → Prop} {m : Nat} {S X : St} (hM : MOK G m) (I : Rg S) (q : Q (.inl (some (.float (fullV (S 0 47) (inOrd S * S 0 38))))) (pM G m S (up2 X 0 31 0))) : TC Z (d + 9) mi_X5_fullness [tR (some m)] (pM G m S X) Q := by
  obtain ⟨⟨i38, i39, i40, i41, i42, i43, i44, i45, i46, i47, i55, i60⟩, irow, iwait, igrp⟩ := id I
  have rr := room_rng I
  have v := (full_vf (n := S 0 47) (k := inOrd S * S 0 38) i47 rr).1
  unfold fullV at q v
  refine c_X5_fullness hM (mc_inOrder hM I (r_X5_fullness_9 hM ⟨by omega, fun h => ?_, fun h => ?_⟩))
  · rw [if_neg h] at q v
    exact ⟨v, q⟩
  · rw [if_pos h] at q
    exact q
