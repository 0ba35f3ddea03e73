/-! A QUOTIENT OF TWO INTS IS A NUMBER -/
theorem b64_c : FP.Core.b64.tails = 2 ^ 52 ∧ FP.Core.b64.exps = 2048 ∧ FP.Core.b64.qmin = -1074 ∧ FP.Core.b64.qmax = 971 ∧ 2 ^ FP.Core.b64.p = 2 ^ 53 := by decide +kernel
/-- a datum that is a number of the format -/
def numD : FP.Core.Datum → Prop
  | .nan => False
  | .inf _ => True
  | .fin _ c q => c < 2 ^ 53 ∧ q ≤ 971
theorem asm_num {s : Bool} {e t : Nat} (he : e ≤ 2047) (ht : t < 2 ^ 52) (h : e = 2047 → t = 0) : (FP.Core.assemble FP.Core.b64 s e t) % 2 ^ 63 ≤ 0x7ff0000000000000 ∧ FP.Core.assemble FP.Core.b64 s e t < 2 ^ 64 := by
  unfold FP.Core.assemble
  rw [b64_c.1, b64_c.2.1]
  cases s <;> simp only [Bool.toNat_true, Bool.toNat_false] <;> omega
theorem enc_fin {s : Bool} {c : Nat} {q : Int} : FP.Core.encode FP.Core.b64 (.fin s c q) = if c < 2 ^ 52 then FP.Core.assemble FP.Core.b64 s 0 c else FP.Core.assemble FP.Core.b64 s ((q - -1074).toNat + 1) (c - 2 ^ 52) := by
  have e : FP.Core.encode FP.Core.b64 (.fin s c q) = if c < FP.Core.b64.tails then FP.Core.assemble FP.Core.b64 s 0 c else FP.Core.assemble FP.Core.b64 s ((q - FP.Core.b64.qmin).toNat + 1) (c - FP.Core.b64.tails) := rfl
  rw [e, b64_c.1, b64_c.2.2.1]
theorem u64 {n : Nat} (h : n < 2 ^ 64) : (UInt64.ofNat n).toNat = n := UInt64.toNat_ofNat_of_lt' h
theorem enc_num {D : FP.Core.Datum} (h : numD D) : (FP.Core.encode FP.Core.b64 D) % 2 ^ 63 ≤ 0x7ff0000000000000 ∧ FP.Core.encode FP.Core.b64 D < 2 ^ 64 := by
  cases D with
  | nan => exact h.elim
  | inf s =>
    have e : FP.Core.encode FP.Core.b64 (.inf s) = FP.Core.assemble FP.Core.b64 s (FP.Core.b64.exps - 1) 0 := rfl
    rw [e, b64_c.2.1]
    exact asm_num (by decide) (by decide) (fun _ => rfl)
  | fin s c q =>
    obtain ⟨h1, h2⟩ := h
    rw [enc_fin]
    split
    · exact asm_num (by decide) (by assumption) (fun h => absurd h (by decide))
    · exact asm_num (by omega) (by omega) (fun h => by omega)
theorem settle_num {s : Bool} {c : Nat} {q : Int} : numD (FP.Core.settle FP.Core.b64 s c q) := by
  unfold FP.Core.settle FP.Core.bound
  rw [b64_c.2.2.2.2, b64_c.2.2.2.1, b64_c.1]
  split
  · split
    · exact ⟨by assumption, by assumption⟩
    · trivial
  · split
    · exact ⟨by decide, by assumption⟩
    · trivial
theorem ratio_num {s : Bool} {num den : Nat} {e : Int} : numD (FP.Core.roundRatio FP.Core.b64 s num den e) := by
  unfold FP.Core.roundRatio
  split
  · rw [b64_c.2.2.1]; exact ⟨by decide, by decide⟩
  · exact settle_num
theorem vf_of {D : FP.Core.Datum} (h : numD D) : vf_n64 (UInt64.ofNat (FP.Core.encode FP.Core.b64 D)) := by
  obtain ⟨h1, h2⟩ := enc_num h
  unfold vf_n64
  rw [UInt64.le_iff_toNat_le, UInt64.toNat_and, u64 h2]
  show _ &&& (2 ^ 63 - 1) ≤ 0x7ff0000000000000
  rw [Nat.and_two_pow_sub_one_eq_mod]
  exact h1
/-- the bits of an int other than zero -/
theorem dec_int {n : Nat} {s : Bool} (h0 : n ≠ 0) (h1 : n < 2 ^ 32) : ∃ c q, FP.Core.decode FP.Core.b64 (FP.Core.encode FP.Core.b64 (FP.Core.roundRatio FP.Core.b64 s n 1 0)) = .fin s c q ∧ c ≠ 0 := by
  have hl : n.log2 ≤ 31 := by
    have := Nat.log2_lt (n := n) (k := 32) h0
    have := this.mpr h1
    omega
  have hp := Nat.log2_self_le h0
  have hp2 : n < 2 ^ (n.log2 + 1) := Nat.lt_log2_self
  have hlead : FP.Core.leading n 1 = (n.log2 : Int) := by
    unfold FP.Core.leading
    have e1 : Nat.log2 1 = 0 := by decide
    rw [e1]
    simp only [Int.natCast_zero, Int.sub_zero]
    rw [if_pos]
    have : (-(n.log2 : Int)).toNat = 0 := by omega
    rw [this, Int.toNat_natCast]
    omega
  have hq : FP.Core.quantum FP.Core.b64 n 1 0 = (n.log2 : Int) - 52 := by
    unfold FP.Core.quantum
    rw [hlead, b64_c.2.2.1]
    have : ((FP.Core.b64.p : Nat) : Int) = 53 := by decide
    rw [this]
    omega
  have hc : ∃ c, n * 2 ^ (52 - n.log2) = c ∧ 2 ^ 52 ≤ c ∧ c < 2 ^ 53 := by
    refine ⟨_, rfl, ?_, ?_⟩
    · calc 2 ^ 52 = 2 ^ n.log2 * 2 ^ (52 - n.log2) := by rw [← Nat.pow_add]; congr 1; omega
        _ ≤ n * 2 ^ (52 - n.log2) := Nat.mul_le_mul_right _ hp
    · calc n * 2 ^ (52 - n.log2) < 2 ^ (n.log2 + 1) * 2 ^ (52 - n.log2) := Nat.mul_lt_mul_of_pos_right hp2 (Nat.pow_pos (by decide))
        _ = 2 ^ 53 := by rw [← Nat.pow_add]; congr 1; omega
  obtain ⟨c, hce, hc1, hc2⟩ := hc
  have hround : FP.Core.roundRatio FP.Core.b64 s n 1 0 = .fin s c ((n.log2 : Int) - 52) := by
    unfold FP.Core.roundRatio
    rw [if_neg h0, hq]
    unfold FP.Core.roundAt FP.Core.unitsNum FP.Core.unitsDen
    have e1 : (0 - ((n.log2 : Int) - 52)).toNat = 52 - n.log2 := by omega
    have e2 : ((n.log2 : Int) - 52 - 0).toNat = 0 := by omega
    rw [e1, e2, hce]
    have e3 : FP.Core.nearest c (1 * 2 ^ 0) = c := by
      unfold FP.Core.nearest
      rw [Nat.pow_zero, Nat.mul_one, Nat.mod_one, Nat.div_one]
      rfl
    rw [e3]
    unfold FP.Core.settle FP.Core.bound
    rw [b64_c.2.2.2.2, b64_c.2.2.2.1, if_pos hc2, if_pos (by omega)]
  rw [hround]
  have henc : FP.Core.encode FP.Core.b64 (.fin s c ((n.log2 : Int) - 52)) = (s.toNat * 2048 + (n.log2 + 1023)) * 2 ^ 52 + (c - 2 ^ 52) := by
    rw [enc_fin, if_neg (by omega)]
    unfold FP.Core.assemble
    rw [b64_c.1, b64_c.2.1]
    have : ((n.log2 : Int) - 52 - -1074).toNat + 1 = n.log2 + 1023 := by omega
    rw [this]
  rw [henc]
  have hE : ((s.toNat * 2048 + (n.log2 + 1023)) * 2 ^ 52 + (c - 2 ^ 52)) / 2 ^ 52 = s.toNat * 2048 + (n.log2 + 1023) := by
    rw [Nat.mul_comm, Nat.mul_add_div (by decide), Nat.div_eq_of_lt (by omega), Nat.add_zero]
  have hs : s.toNat = 0 ∨ s.toNat = 1 := by cases s <;> simp
  have hT : ((s.toNat * 2048 + (n.log2 + 1023)) * 2 ^ 52 + (c - 2 ^ 52)) % 2 ^ 52 = c - 2 ^ 52 := by
    rw [Nat.mul_comm, Nat.mul_add_mod, Nat.mod_eq_of_lt (by omega)]
  refine ⟨2 ^ 52 + (c - 2 ^ 52), (-1074 : Int) + (((n.log2 + 1023 : Nat) : Int) - 1), ?_, by omega⟩
  unfold FP.Core.decode FP.Core.fieldE FP.Core.fieldT FP.Core.fieldS
  rw [b64_c.1, b64_c.2.1, b64_c.2.2.1, hE, hT]
  have e5 : (s.toNat * 2048 + (n.log2 + 1023)) % 2048 = n.log2 + 1023 := by rw [Nat.add_comm, Nat.add_mul_mod_self_right, Nat.mod_eq_of_lt (by omega)]
  have e6 : ((s.toNat * 2048 + (n.log2 + 1023)) / 2048 % 2 == 1) = s := by
    have : (s.toNat * 2048 + (n.log2 + 1023)) / 2048 = s.toNat := by rw [Nat.add_comm, Nat.add_mul_div_right _ _ (by decide), Nat.div_eq_of_lt (by omega), Nat.zero_add]
    rw [this]
    cases s <;> rfl
  rw [e5, e6, if_neg (by omega), if_neg (by omega)]
theorem dec_0 : FP.Core.decode FP.Core.b64 (FP.Core.encode FP.Core.b64 (FP.Core.roundRatio FP.Core.b64 false 0 1 0)) = .fin false 0 (-1074) := by decide +kernel
/-- the double of an int -/
theorem dec_i2d (a : Int32) : ∃ s c q, FP.Core.decode FP.Core.b64 (FP.i2d a).toNat = .fin s c q ∧ (a.toInt ≠ 0 → c ≠ 0) := by
  have hr : FP.i2d a = UInt64.ofNat (FP.Core.encode FP.Core.b64 (FP.Core.roundRatio FP.Core.b64 (decide (a.toInt < 0)) a.toInt.natAbs 1 0)) := rfl
  rw [hr, u64 (enc_num ratio_num).2]
  by_cases h : a.toInt = 0
  · rw [h]
    exact ⟨_, _, _, dec_0, fun z => absurd rfl z⟩
  · have h1 := a.toInt_lt
    have h2 := a.le_toInt
    obtain ⟨c, q, e, hc⟩ := dec_int (n := a.toInt.natAbs) (s := decide (a.toInt < 0)) (by omega) (by omega)
    exact ⟨_, c, q, e, fun _ => hc⟩
theorem ddiv_num {a b : Int32} (hb : b.toInt ≠ 0) : vf_n64 (FP.ddiv (FP.i2d a) (FP.i2d b)) := by
  obtain ⟨s, c, q, e1, -⟩ := dec_i2d a
  obtain ⟨t, k, r, e2, hk⟩ := dec_i2d b
  have hr : FP.ddiv (FP.i2d a) (FP.i2d b) = UInt64.ofNat (FP.Core.encode FP.Core.b64 (FP.Core.quotient FP.Core.b64 (FP.Core.decode FP.Core.b64 (FP.i2d a).toNat) (FP.Core.decode FP.Core.b64 (FP.i2d b).toNat))) := rfl
  rw [hr, e1, e2]
  refine vf_of ?_
  have e3 : FP.Core.quotient FP.Core.b64 (.fin s c q) (.fin t k r) = if k = 0 then (if c = 0 then .nan else .inf (s != t)) else FP.Core.roundRatio FP.Core.b64 (s != t) c k (q - r) := rfl
  rw [e3, if_neg (hk hb)]
  exact ratio_num
def meanV (n k : Int) : UInt64 := if k = 0 then FP.dconst0 else FP.ddiv (FP.i2d (Int32.ofInt n)) (FP.i2d (Int32.ofInt k))
theorem mean_vf {n k : Int} (hk : inR k) : vf_n64 (meanV n k) := by
  unfold meanV
  split
  · show FP.dconst0 &&& 0x7fffffffffffffff ≤ 0x7ff0000000000000
    decide +kernel
  · rename_i h
    refine ddiv_num ?_
    rw [i_to hk]
    exact h
theorem mp_meanChain {Z : ZT} {d : Nat} {G : GH} {Q : TR → GH → Prop} {m : Nat} {S X : St} (hM : MOK G m) (h8 : inR (S 65 8)) (q : Q (.inl (some (.double (meanV (S 65 9) (S 65 8))))) (pM G m S (up2 X 0 31 0))) : TC Z (d + 9) mi_X5_meanChain [tR (some m)] (pM G m S X) Q := by
  have v := mean_vf (n := S 65 9) h8
  unfold meanV at q v
  refine c_X5_meanChain hM ⟨h8, fun h => ?_, fun h => ?_⟩
  · have h : ¬ S 65 8 = 0 := h
    rw [if_neg h] at q v
    exact ⟨v, q⟩
  · have h : S 65 8 = 0 := h
    rw [if_pos h] at q
    exact q
