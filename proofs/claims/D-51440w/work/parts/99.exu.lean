/-! WORDS as keys -/
section WORDS
theorem hashN_snoc (l : List Nat) (c : Nat) : hashN (l ++ [c]) = 31 * hashN l + c := by
  unfold hashN
  rw [List.foldl_append]
  rfl
theorem hashN_inj : ∀ (n : Nat) (l l' : List Nat), l.length = n → (∀ c ∈ l, 97 ≤ c ∧ c ≤ 122) → (∀ c ∈ l', 97 ≤ c ∧ c ≤ 122) → hashN l = hashN l' → l = l' := by
  intro n
  induction n with
  | zero =>
    intro l l' hn h h' e
    have hl : l = [] := List.length_eq_zero_iff.mp hn
    subst hl
    rcases List.eq_nil_or_concat l' with h0 | ⟨t, x, h0⟩
    · exact h0.symm
    · rw [List.concat_eq_append] at h0
      rw [h0, hashN_snoc] at e
      have := h' x (by rw [h0]; simp)
      have e0 : hashN [] = 0 := rfl
      omega
  | succ n ih =>
    intro l l' hn h h' e
    rcases List.eq_nil_or_concat l with h0 | ⟨s, y, h0⟩
    · rw [h0] at hn; cases hn
    · rw [List.concat_eq_append] at h0
      subst h0
      rw [hashN_snoc] at e
      have hy := h y (by simp)
      rcases List.eq_nil_or_concat l' with h1 | ⟨t, x, h1⟩
      · rw [h1] at e
        have e0 : hashN [] = 0 := rfl
        omega
      · rw [List.concat_eq_append] at h1
        subst h1
        rw [hashN_snoc] at e
        have hx := h' x (by simp)
        have exy : y = x := by omega
        have est : hashN s = hashN t := by omega
        have := ih s t (by rw [List.length_append, List.length_cons, List.length_nil] at hn; omega) (fun c hc => h c (by simp [hc])) (fun c hc => h' c (by simp [hc])) est
        rw [this, exy]
theorem hashN_lt {l : List Nat} (h : Wd l) : 97 ≤ hashN l ∧ hashN l < 4294967296 := by
  obtain ⟨h1, h2, h3⟩ := h
  match l, h1, h2, h3 with
  | [a], _, _, h => have ha := h a (by simp); simp only [hashN, List.foldl]; omega
  | [a, b], _, _, h => have ha := h a (by simp); have hb := h b (by simp); simp only [hashN, List.foldl]; omega
  | [a, b, c], _, _, h => have ha := h a (by simp); have hb := h b (by simp); have hc := h c (by simp); simp only [hashN, List.foldl]; omega
  | [a, b, c, d], _, _, h => have ha := h a (by simp); have hb := h b (by simp); have hc := h c (by simp); have hd := h d (by simp); simp only [hashN, List.foldl]; omega
  | [a, b, c, d, e], _, _, h => have ha := h a (by simp); have hb := h b (by simp); have hc := h c (by simp); have hd := h d (by simp); have he := h e (by simp); simp only [hashN, List.foldl]; omega
  | [a, b, c, d, e, f], _, _, h => have ha := h a (by simp); have hb := h b (by simp); have hc := h c (by simp); have hd := h d (by simp); have he := h e (by simp); have hf := h f (by simp); simp only [hashN, List.foldl]; omega
theorem ofInt_bv (n : Nat) : (Int32.ofInt (n : Int)).toBitVec = BitVec.ofNat 32 n := by
  show BitVec.ofInt 32 (n : Int) = _
  exact BitVec.ofInt_natCast 32 n
theorem hashI_bv (l : List Nat) : (Int32.ofInt (hashI l)).toBitVec = BitVec.ofNat 32 (hashN l) := by
  unfold hashI
  rw [Int32.ofInt_toInt]
  exact ofInt_bv _
theorem hashI_rng (l : List Nat) : inR (hashI l) := by
  unfold hashI
  have h1 := Int32.le_toInt (Int32.ofInt (hashN l : Int))
  have h2 := Int32.toInt_le (Int32.ofInt (hashN l : Int))
  have e2 : Int32.maxValue.toInt = 2147483647 := by decide +kernel
  rw [e2] at h2
  exact ⟨by simpa using h1, h2⟩
theorem hashI_ne {l : List Nat} (h : Wd l) : hashI l ≠ 0 := by
  intro e
  have hb := hashI_bv l
  rw [e] at hb
  have hl := hashN_lt h
  have : (Int32.ofInt 0).toBitVec = 0#32 := rfl
  rw [this] at hb
  have := congrArg BitVec.toNat hb
  rw [BitVec.toNat_ofNat, BitVec.toNat_ofNat, Nat.mod_eq_of_lt (a := hashN l) (by omega)] at this
  omega
theorem spread_inv (x : BitVec 32) : (x ^^^ x >>> 16) ^^^ ((x ^^^ x >>> 16) >>> 16) = x := by
  apply BitVec.eq_of_getLsbD_eq
  intro i hi
  simp only [BitVec.getLsbD_xor, BitVec.getLsbD_ushiftRight]
  have : x.getLsbD (16 + (16 + i)) = false := BitVec.getLsbD_of_ge x _ (by omega)
  rw [this]
  cases x.getLsbD i <;> cases x.getLsbD (16 + i) <;> rfl
theorem spread_bv (h : Int) : (Int32.ofInt (spreadI h)).toBitVec = (Int32.ofInt h).toBitVec ^^^ (Int32.ofInt h).toBitVec >>> 16 := by
  unfold spreadI ixor iushr
  rw [Int32.ofInt_toInt, Int32.ofInt_toInt, Int32.toBitVec_xor]
  congr 1
theorem spread_rng (h : Int) : inR (spreadI h) := by
  unfold spreadI ixor
  have h1 := Int32.le_toInt (Int32.ofInt h ^^^ Int32.ofInt (iushr h 16))
  have h2 := Int32.toInt_le (Int32.ofInt h ^^^ Int32.ofInt (iushr h 16))
  have e2 : Int32.maxValue.toInt = 2147483647 := by decide +kernel
  rw [e2] at h2
  exact ⟨by simpa using h1, h2⟩
/-- words of the same code are the same -/
theorem word_inj {l l' : List Nat} (h : Wd l) (h' : Wd l') (e : spreadI (hashI l) = spreadI (hashI l')) : l = l' := by
  have e1 : (Int32.ofInt (spreadI (hashI l))).toBitVec = (Int32.ofInt (spreadI (hashI l'))).toBitVec := by rw [e]
  rw [spread_bv, spread_bv, hashI_bv, hashI_bv] at e1
  have e2 := congrArg (fun y : BitVec 32 => y ^^^ y >>> 16) e1
  rw [spread_inv, spread_inv] at e2
  have e3 := congrArg BitVec.toNat e2
  have hl := hashN_lt h
  have hl' := hashN_lt h'
  rw [BitVec.toNat_ofNat, BitVec.toNat_ofNat, Nat.mod_eq_of_lt (by omega), Nat.mod_eq_of_lt (by omega)] at e3
  exact hashN_inj _ l l' rfl h.2.2 h'.2.2 e3
theorem strK_f {k : Nat} (h : k = 17 ∨ k = 517) : kfb k 135 = true ∧ kfb k 136 = true ∧ kfb k 137 = true ∧ kfb k 138 = true := by
  rcases h with h | h <;> (rw [h]; decide +kernel)
/-- a word whose hash is kept, as a key -/
theorem ky_word {Z : ZT} {d : Nat} {G : GH} {k : Nat} {c : Int} (h : KyW G k c) : KeyH Z (d + 2) G k c (fun G1 => G1 = G) := by
  obtain ⟨l, wd, ⟨s1, s2, s3, s4⟩, h137, hc⟩ := h
  obtain ⟨f1, f2, f3, f4⟩ := strK_f s1
  refine ⟨by unfold KeyK; omega, s3, by rw [hc]; exact spread_rng _, fun Q' hq => c_J1_hash ⟨fun e => (by cases e), fun a1 ha1 => ?_⟩⟩
  have e : a1 = k := by cases ha1; rfl
  subst e
  refine ⟨by omega, fun h' => by omega, fun h' => by omega, fun _ => c_J13_hashCode ⟨f3, by rw [h137]; exact hashI_rng l, fun _ => r_J13_hashCode_58 (r_J1_hash_12 ?_), fun h0 => ?_⟩⟩
  · rw [h137]
    have : ixor (hashI l) (iushr (hashI l) 16) = c := hc.symm
    rw [this]
    exact hq G Md.rf rfl rfl rfl
  · rw [h137] at h0
    exact absurd h0 (hashI_ne wd)
end WORDS
