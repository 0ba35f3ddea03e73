/-! THE MODEL'S METHODS, 5: images (printed by tools/mkimg.py) -/
/-- the field of a place in an image, and the index in it -/
def imgF (n : Nat) : Nat := if n < 12 then 0 else if n < 32 then 48 else if n < 52 then 49 else if n < 72 then 50 else if n < 92 then 51 else if n < 112 then 52 else if n < 132 then 53 else if n < 152 then 54 else if n < 160 then 56 else if n < 168 then 57 else if n < 176 then 58 else if n < 184 then 59 else if n < 188 then 61 else if n < 212 then 62 else if n < 216 then 63 else if n < 248 then 64 else if n < 261 then 65 else 0
def imgC (n : Nat) : Nat := if n < 10 then 38 + n else if n = 10 then 55 else if n = 11 then 60 else if n < 32 then n - 12 else if n < 52 then n - 32 else if n < 72 then n - 52 else if n < 92 then n - 72 else if n < 112 then n - 92 else if n < 132 then n - 112 else if n < 152 then n - 132 else if n < 160 then n - 152 else if n < 168 then n - 160 else if n < 176 then n - 168 else if n < 184 then n - 176 else if n < 188 then n - 184 else if n < 212 then n - 188 else if n < 216 then n - 212 else if n < 248 then n - 216 else if n < 261 then n - 248 else 0
/-- where an image keeps a field -/
def iOff (f c : Nat) : Nat := if f = 0 ∧ 38 ≤ c ∧ c ≤ 47 then c - 38 else if f = 0 ∧ c = 55 then 10 else if f = 0 ∧ c = 60 then 11 else if f = 48 ∧ c < 20 then 12 + c else if f = 49 ∧ c < 20 then 32 + c else if f = 50 ∧ c < 20 then 52 + c else if f = 51 ∧ c < 20 then 72 + c else if f = 52 ∧ c < 20 then 92 + c else if f = 53 ∧ c < 20 then 112 + c else if f = 54 ∧ c < 20 then 132 + c else if f = 56 ∧ c < 8 then 152 + c else if f = 57 ∧ c < 8 then 160 + c else if f = 58 ∧ c < 8 then 168 + c else if f = 59 ∧ c < 8 then 176 + c else if f = 61 ∧ c < 4 then 184 + c else if f = 62 ∧ c < 24 then 188 + c else if f = 63 ∧ c < 4 then 212 + c else if f = 64 ∧ c < 32 then 216 + c else if f = 65 ∧ c < 13 then 248 + c else 1000
theorem img_off : ∀ n : Fin 261, iOff (imgF n.val) (imgC n.val) = n.val := by decide +kernel
theorem off_img {f c : Nat} (h : iOff f c < 261) : imgF (iOff f c) = f ∧ imgC (iOff f c) = c := by
  unfold iOff at h ⊢
  by_cases h0 : f = 0 ∧ 38 ≤ c ∧ c ≤ 47
  · rw [if_pos h0]
    obtain ⟨rfl, h1, h2⟩ := h0
    refine ⟨if_pos (by omega), ?_⟩
    unfold imgC
    rw [if_pos (by omega)]
    omega
  rw [if_neg h0] at h ⊢
  by_cases h1 : f = 0 ∧ c = 55
  · rw [if_pos h1]
    exact ⟨h1.1.symm, h1.2.symm⟩
  rw [if_neg h1] at h ⊢
  by_cases h2 : f = 0 ∧ c = 60
  · rw [if_pos h2]
    exact ⟨h2.1.symm, h2.2.symm⟩
  rw [if_neg h2] at h ⊢
  by_cases g0 : f = 48 ∧ c < 20
  · rw [if_pos g0]
    obtain ⟨rfl, g⟩ := g0
    unfold imgF imgC
    exact ⟨by rw [if_neg (by omega), if_pos (by omega)], by rw [if_neg (by omega), if_neg (by omega), if_neg (by omega), if_pos (by omega)]; omega⟩
  rw [if_neg g0] at h ⊢
  by_cases g1 : f = 49 ∧ c < 20
  · rw [if_pos g1]
    obtain ⟨rfl, g⟩ := g1
    unfold imgF imgC
    exact ⟨by rw [if_neg (by omega), if_neg (by omega), if_pos (by omega)], by rw [if_neg (by omega), if_neg (by omega), if_neg (by omega), if_neg (by omega), if_pos (by omega)]; omega⟩
  rw [if_neg g1] at h ⊢
  by_cases g2 : f = 50 ∧ c < 20
  · rw [if_pos g2]
    obtain ⟨rfl, g⟩ := g2
    unfold imgF imgC
    exact ⟨by rw [if_neg (by omega), if_neg (by omega), if_neg (by omega), if_pos (by omega)], by rw [if_neg (by omega), if_neg (by omega), if_neg (by omega), if_neg (by omega), if_neg (by omega), if_pos (by omega)]; omega⟩
  rw [if_neg g2] at h ⊢
  by_cases g3 : f = 51 ∧ c < 20
  · rw [if_pos g3]
    obtain ⟨rfl, g⟩ := g3
    unfold imgF imgC
    exact ⟨by rw [if_neg (by omega), if_neg (by omega), if_neg (by omega), if_neg (by omega), if_pos (by omega)], by rw [if_neg (by omega), if_neg (by omega), if_neg (by omega), if_neg (by omega), if_neg (by omega), if_neg (by omega), if_pos (by omega)]; omega⟩
  rw [if_neg g3] at h ⊢
  by_cases g4 : f = 52 ∧ c < 20
  · rw [if_pos g4]
    obtain ⟨rfl, g⟩ := g4
    unfold imgF imgC
    exact ⟨by rw [if_neg (by omega), if_neg (by omega), if_neg (by omega), if_neg (by omega), if_neg (by omega), if_pos (by omega)], by rw [if_neg (by omega), if_neg (by omega), if_neg (by omega), if_neg (by omega), if_neg (by omega), if_neg (by omega), if_neg (by omega), if_pos (by omega)]; omega⟩
  rw [if_neg g4] at h ⊢
  by_cases g5 : f = 53 ∧ c < 20
  · rw [if_pos g5]
    obtain ⟨rfl, g⟩ := g5
    unfold imgF imgC
    exact ⟨by rw [if_neg (by omega), if_neg (by omega), if_neg (by omega), if_neg (by omega), if_neg (by omega), if_neg (by omega), if_pos (by omega)], by rw [if_neg (by omega), if_neg (by omega), if_neg (by omega), if_neg (by omega), if_neg (by omega), if_neg (by omega), if_neg (by omega), if_neg (by omega), if_pos (by omega)]; omega⟩
  rw [if_neg g5] at h ⊢
  by_cases g6 : f = 54 ∧ c < 20
  · rw [if_pos g6]
    obtain ⟨rfl, g⟩ := g6
    unfold imgF imgC
    exact ⟨by rw [if_neg (by omega), if_neg (by omega), if_neg (by omega), if_neg (by omega), if_neg (by omega), if_neg (by omega), if_neg (by omega), if_pos (by omega)], by rw [if_neg (by omega), if_neg (by omega), if_neg (by omega), if_neg (by omega), if_neg (by omega), if_neg (by omega), if_neg (by omega), if_neg (by omega), if_neg (by omega), if_pos (by omega)]; omega⟩
  rw [if_neg g6] at h ⊢
  by_cases g7 : f = 56 ∧ c < 8
  · rw [if_pos g7]
    obtain ⟨rfl, g⟩ := g7
    unfold imgF imgC
    exact ⟨by rw [if_neg (by omega), if_neg (by omega), if_neg (by omega), if_neg (by omega), if_neg (by omega), if_neg (by omega), if_neg (by omega), if_neg (by omega), if_pos (by omega)], by rw [if_neg (by omega), if_neg (by omega), if_neg (by omega), if_neg (by omega), if_neg (by omega), if_neg (by omega), if_neg (by omega), if_neg (by omega), if_neg (by omega), if_neg (by omega), if_pos (by omega)]; omega⟩
  rw [if_neg g7] at h ⊢
  by_cases g8 : f = 57 ∧ c < 8
  · rw [if_pos g8]
    obtain ⟨rfl, g⟩ := g8
    unfold imgF imgC
    exact ⟨by rw [if_neg (by omega), if_neg (by omega), if_neg (by omega), if_neg (by omega), if_neg (by omega), if_neg (by omega), if_neg (by omega), if_neg (by omega), if_neg (by omega), if_pos (by omega)], by rw [if_neg (by omega), if_neg (by omega), if_neg (by omega), if_neg (by omega), if_neg (by omega), if_neg (by omega), if_neg (by omega), if_neg (by omega), if_neg (by omega), if_neg (by omega), if_neg (by omega), if_pos (by omega)]; omega⟩
  rw [if_neg g8] at h ⊢
  by_cases g9 : f = 58 ∧ c < 8
  · rw [if_pos g9]
    obtain ⟨rfl, g⟩ := g9
    unfold imgF imgC
    exact ⟨by rw [if_neg (by omega), if_neg (by omega), if_neg (by omega), if_neg (by omega), if_neg (by omega), if_neg (by omega), if_neg (by omega), if_neg (by omega), if_neg (by omega), if_neg (by omega), if_pos (by omega)], by rw [if_neg (by omega), if_neg (by omega), if_neg (by omega), if_neg (by omega), if_neg (by omega), if_neg (by omega), if_neg (by omega), if_neg (by omega), if_neg (by omega), if_neg (by omega), if_neg (by omega), if_neg (by omega), if_pos (by omega)]; omega⟩
  rw [if_neg g9] at h ⊢
  by_cases g10 : f = 59 ∧ c < 8
  · rw [if_pos g10]
    obtain ⟨rfl, g⟩ := g10
    unfold imgF imgC
    exact ⟨by rw [if_neg (by omega), if_neg (by omega), if_neg (by omega), if_neg (by omega), if_neg (by omega), if_neg (by omega), if_neg (by omega), if_neg (by omega), if_neg (by omega), if_neg (by omega), if_neg (by omega), if_pos (by omega)], by rw [if_neg (by omega), if_neg (by omega), if_neg (by omega), if_neg (by omega), if_neg (by omega), if_neg (by omega), if_neg (by omega), if_neg (by omega), if_neg (by omega), if_neg (by omega), if_neg (by omega), if_neg (by omega), if_neg (by omega), if_pos (by omega)]; omega⟩
  rw [if_neg g10] at h ⊢
  by_cases g11 : f = 61 ∧ c < 4
  · rw [if_pos g11]
    obtain ⟨rfl, g⟩ := g11
    unfold imgF imgC
    exact ⟨by rw [if_neg (by omega), if_neg (by omega), if_neg (by omega), if_neg (by omega), if_neg (by omega), if_neg (by omega), if_neg (by omega), if_neg (by omega), if_neg (by omega), if_neg (by omega), if_neg (by omega), if_neg (by omega), if_pos (by omega)], by rw [if_neg (by omega), if_neg (by omega), if_neg (by omega), if_neg (by omega), if_neg (by omega), if_neg (by omega), if_neg (by omega), if_neg (by omega), if_neg (by omega), if_neg (by omega), if_neg (by omega), if_neg (by omega), if_neg (by omega), if_neg (by omega), if_pos (by omega)]; omega⟩
  rw [if_neg g11] at h ⊢
  by_cases g12 : f = 62 ∧ c < 24
  · rw [if_pos g12]
    obtain ⟨rfl, g⟩ := g12
    unfold imgF imgC
    exact ⟨by rw [if_neg (by omega), if_neg (by omega), if_neg (by omega), if_neg (by omega), if_neg (by omega), if_neg (by omega), if_neg (by omega), if_neg (by omega), if_neg (by omega), if_neg (by omega), if_neg (by omega), if_neg (by omega), if_neg (by omega), if_pos (by omega)], by rw [if_neg (by omega), if_neg (by omega), if_neg (by omega), if_neg (by omega), if_neg (by omega), if_neg (by omega), if_neg (by omega), if_neg (by omega), if_neg (by omega), if_neg (by omega), if_neg (by omega), if_neg (by omega), if_neg (by omega), if_neg (by omega), if_neg (by omega), if_pos (by omega)]; omega⟩
  rw [if_neg g12] at h ⊢
  by_cases g13 : f = 63 ∧ c < 4
  · rw [if_pos g13]
    obtain ⟨rfl, g⟩ := g13
    unfold imgF imgC
    exact ⟨by rw [if_neg (by omega), if_neg (by omega), if_neg (by omega), if_neg (by omega), if_neg (by omega), if_neg (by omega), if_neg (by omega), if_neg (by omega), if_neg (by omega), if_neg (by omega), if_neg (by omega), if_neg (by omega), if_neg (by omega), if_neg (by omega), if_pos (by omega)], by rw [if_neg (by omega), if_neg (by omega), if_neg (by omega), if_neg (by omega), if_neg (by omega), if_neg (by omega), if_neg (by omega), if_neg (by omega), if_neg (by omega), if_neg (by omega), if_neg (by omega), if_neg (by omega), if_neg (by omega), if_neg (by omega), if_neg (by omega), if_neg (by omega), if_pos (by omega)]; omega⟩
  rw [if_neg g13] at h ⊢
  by_cases g14 : f = 64 ∧ c < 32
  · rw [if_pos g14]
    obtain ⟨rfl, g⟩ := g14
    unfold imgF imgC
    exact ⟨by rw [if_neg (by omega), if_neg (by omega), if_neg (by omega), if_neg (by omega), if_neg (by omega), if_neg (by omega), if_neg (by omega), if_neg (by omega), if_neg (by omega), if_neg (by omega), if_neg (by omega), if_neg (by omega), if_neg (by omega), if_neg (by omega), if_neg (by omega), if_pos (by omega)], by rw [if_neg (by omega), if_neg (by omega), if_neg (by omega), if_neg (by omega), if_neg (by omega), if_neg (by omega), if_neg (by omega), if_neg (by omega), if_neg (by omega), if_neg (by omega), if_neg (by omega), if_neg (by omega), if_neg (by omega), if_neg (by omega), if_neg (by omega), if_neg (by omega), if_neg (by omega), if_pos (by omega)]; omega⟩
  rw [if_neg g14] at h ⊢
  by_cases g15 : f = 65 ∧ c < 13
  · rw [if_pos g15]
    obtain ⟨rfl, g⟩ := g15
    unfold imgF imgC
    exact ⟨by rw [if_neg (by omega), if_neg (by omega), if_neg (by omega), if_neg (by omega), if_neg (by omega), if_neg (by omega), if_neg (by omega), if_neg (by omega), if_neg (by omega), if_neg (by omega), if_neg (by omega), if_neg (by omega), if_neg (by omega), if_neg (by omega), if_neg (by omega), if_neg (by omega), if_pos (by omega)], by rw [if_neg (by omega), if_neg (by omega), if_neg (by omega), if_neg (by omega), if_neg (by omega), if_neg (by omega), if_neg (by omega), if_neg (by omega), if_neg (by omega), if_neg (by omega), if_neg (by omega), if_neg (by omega), if_neg (by omega), if_neg (by omega), if_neg (by omega), if_neg (by omega), if_neg (by omega), if_neg (by omega), if_pos (by omega)]; omega⟩
  rw [if_neg g15] at h ⊢
  omega
/-- what an image holds while it is kept, and what is there while it is taken -/
def imgP (k n : Nat) (S X : St) : St := fun f c => if f = 66 ∧ 320 * k ≤ c ∧ c < 320 * k + n then S (imgF (c - 320 * k)) (imgC (c - 320 * k)) else X f c
def takP (k n : Nat) (S X : St) : St := fun f c => if iOff f c < n then X 66 (320 * k + iOff f c) else S f c
theorem imgP_0 {k : Nat} {S X : St} : imgP k 0 S X = X := by
  funext f c
  exact if_neg (fun q => by omega)
theorem takP_0 {k : Nat} {S X : St} : takP k 0 S X = S := by
  funext f c
  exact if_neg (fun q => by omega)
theorem imgP_s {k n p : Nat} {S X : St} {v : Int} (hp : p = 320 * k + n) (hv : v = S (imgF n) (imgC n)) : up2 (imgP k n S X) 66 p v = imgP k (n + 1) S X := by
  subst hp hv
  funext f c
  by_cases h : f = 66 ∧ c = 320 * k + n
  · obtain ⟨rfl, rfl⟩ := h
    rw [up2_at]
    unfold imgP
    rw [if_pos (by omega), Nat.add_sub_cancel_left]
  · rw [up2_ne (by omega)]
    unfold imgP
    by_cases q : f = 66 ∧ 320 * k ≤ c ∧ c < 320 * k + n
    · rw [if_pos q, if_pos (by omega)]
    · rw [if_neg q, if_neg (by omega)]
theorem takP_s {k n p f c : Nat} {S X : St} (hn : n < 261) (hp : p = 320 * k + n) (hf : f = imgF n) (hc : c = imgC n) : up2 (takP k n S X) f c (X 66 p) = takP k (n + 1) S X := by
  subst hp hf hc
  have e : iOff (imgF n) (imgC n) = n := img_off ⟨n, hn⟩
  funext f c
  by_cases h : f = imgF n ∧ c = imgC n
  · obtain ⟨rfl, rfl⟩ := h
    rw [up2_at]
    unfold takP
    rw [e, if_pos (by omega)]
  · rw [up2_ne (by omega)]
    have hne : iOff f c ≠ n := fun q => h (by
      have := off_img (f := f) (c := c) (by omega)
      rw [q] at this
      exact ⟨this.1.symm, this.2.symm⟩)
    unfold takP
    by_cases q : iOff f c < n
    · rw [if_pos q, if_pos (by omega)]
    · rw [if_neg q, if_neg (by omega)]
theorem imgP_in {k : Nat} {S X : St} {f c : Nat} (h : iOff f c < 261) : imgP k 261 S X 66 (320 * k + iOff f c) = S f c := by
  unfold imgP
  rw [if_pos (by omega), Nat.add_sub_cancel_left, (off_img h).1, (off_img h).2]
theorem imgP_off {k n : Nat} {S X : St} {f c : Nat} (h : f ≠ 66 ∨ c < 320 * k ∨ 320 * k + 320 ≤ c) (hn : n ≤ 261) : imgP k n S X f c = X f c := if_neg (fun q => by omega)
theorem takP_in {k : Nat} {S X : St} {f c : Nat} (h : iOff f c < 261) : takP k 261 S X f c = X 66 (320 * k + iOff f c) := if_pos h
theorem mc_keepsRow {Z : ZT} {d : Nat} {G : GH} {Q : TR → GH → Prop} {m : Nat} {S X : St} {k f j L base : Nat} {x2 : Int} (many : Nat) (hM : MOK G m) (hk : k < 12) (hx : x2 = 320 * (k : Int) + (base : Int)) (h0 : 0 < j) (h1 : j ≤ 24) (hj : mAL.getD j 0 = f) (hf : mS f = true) (g1 : gK G (m + j) = 100) (g2 : gL G (m + j) = L) (hL : many ≤ L) (hb : base + many ≤ 261) (hFC : ∀ i, i < many → imgF (base + i) = f ∧ imgC (base + i) = i)
    (q : Q (.inl (some (tI (x2 + (many : Int))))) (pM G m S (imgP k (base + many) S X))) : TC Z (d + 1) mi_X5_keepsRow [tR (some m), tR (some (m + j)), tI x2, tI (many : Int)] (pM G m S (imgP k base S X)) Q := by
  have loop : ∀ r i : Nat, i + r = many → TW Z mi_X5_keepsRow (d + 1) 3 [some (tR (some m)), some (tR (some (m + j))), some (tI x2), some (tI (many : Int)), some (tI (i : Int))] [] (pM G m S (imgP k (base + i) S X)) Q := by
    intro r
    induction r with
    | zero =>
      intro i hi
      have hi : i = many := hi
      subst hi
      exact r_X5_keepsRow_3 ⟨by omega, by omega, fun _ => q, fun h => by omega⟩
    | succ r ih =>
      intro i hi
      refine r_X5_keepsRow_3 ⟨by omega, by omega, fun h => by omega, fun _ => ⟨hM.1, fun v2 hv => ⟨m + j, rfl, Or.inl g1, ⟨by omega, by show (i : Int) < ((gL G (m + j) : Nat) : Int); omega⟩, m + 19, ?_, mk_66 hM, ⟨by omega, by show x2 + (i : Int) < ((gL G (m + 19) : Nat) : Int); rw [ml_66 hM]; omega⟩, ?_⟩⟩⟩
      · exact hv.symm.trans (mr_66 hM)
      · rw [sa_66, pa_S h0 h1 hj hf, Int.toNat_natCast, imgP_s (n := base + i) (by omega) (by rw [(hFC i (by omega)).1, (hFC i (by omega)).2])]
        exact ih (i + 1) (by omega)
  exact c_X5_keepsRow (loop many 0 (by omega))
theorem mc_takesRow {Z : ZT} {d : Nat} {G : GH} {Q : TR → GH → Prop} {m : Nat} {S X : St} {k f j L base : Nat} {x2 : Int} (many : Nat) (hM : MOK G m) (hk : k < 12) (hx : x2 = 320 * (k : Int) + (base : Int)) (h0 : 0 < j) (h1 : j ≤ 24) (hj : mAL.getD j 0 = f) (hf : mS f = true) (g1 : gK G (m + j) = 100) (g2 : gL G (m + j) = L) (hL : many ≤ L) (hb : base + many ≤ 261) (hFC : ∀ i, i < many → imgF (base + i) = f ∧ imgC (base + i) = i)
    (q : Q (.inl (some (tI (x2 + (many : Int))))) (pM G m (takP k (base + many) S X) X)) : TC Z (d + 1) mi_X5_takesRow [tR (some m), tR (some (m + j)), tI x2, tI (many : Int)] (pM G m (takP k base S X) X) Q := by
  have loop : ∀ r i : Nat, i + r = many → TW Z mi_X5_takesRow (d + 1) 3 [some (tR (some m)), some (tR (some (m + j))), some (tI x2), some (tI (many : Int)), some (tI (i : Int))] [] (pM G m (takP k (base + i) S X) X) Q := by
    intro r
    induction r with
    | zero =>
      intro i hi
      have hi : i = many := hi
      subst hi
      exact r_X5_takesRow_3 ⟨by omega, by omega, fun _ => q, fun h => by omega⟩
    | succ r ih =>
      intro i hi
      refine r_X5_takesRow_3 ⟨by omega, by omega, fun h => by omega, fun _ => ⟨hM.1, fun v2 hv => ⟨m + 19, ?_, Or.inl (mk_66 hM), ⟨by omega, by show x2 + (i : Int) < ((gL G (m + 19) : Nat) : Int); rw [ml_66 hM]; omega⟩, m + j, rfl, g1, ⟨by omega, by show (i : Int) < ((gL G (m + j) : Nat) : Int); omega⟩, ?_⟩⟩⟩
      · exact hv.symm.trans (mr_66 hM)
      · rw [sa_S h0 h1 hj hf, pa_66, Int.toNat_natCast, takP_s (n := base + i) (by omega) (by omega) (hFC i (by omega)).1.symm (hFC i (by omega)).2.symm]
        exact ih (i + 1) (by omega)
  exact c_X5_takesRow (loop many 0 (by omega))
theorem fc_48 : ∀ i, i < 20 → imgF (12 + i) = 48 ∧ imgC (12 + i) = i := fun i hi => ⟨by unfold imgF; rw [if_neg (by omega), if_pos (by omega)], by unfold imgC; rw [if_neg (by omega), if_neg (by omega), if_neg (by omega), if_pos (by omega)]; omega⟩
theorem fc_49 : ∀ i, i < 20 → imgF (32 + i) = 49 ∧ imgC (32 + i) = i := fun i hi => ⟨by unfold imgF; rw [if_neg (by omega), if_neg (by omega), if_pos (by omega)], by unfold imgC; rw [if_neg (by omega), if_neg (by omega), if_neg (by omega), if_neg (by omega), if_pos (by omega)]; omega⟩
theorem fc_50 : ∀ i, i < 20 → imgF (52 + i) = 50 ∧ imgC (52 + i) = i := fun i hi => ⟨by unfold imgF; rw [if_neg (by omega), if_neg (by omega), if_neg (by omega), if_pos (by omega)], by unfold imgC; rw [if_neg (by omega), if_neg (by omega), if_neg (by omega), if_neg (by omega), if_neg (by omega), if_pos (by omega)]; omega⟩
theorem fc_51 : ∀ i, i < 20 → imgF (72 + i) = 51 ∧ imgC (72 + i) = i := fun i hi => ⟨by unfold imgF; rw [if_neg (by omega), if_neg (by omega), if_neg (by omega), if_neg (by omega), if_pos (by omega)], by unfold imgC; rw [if_neg (by omega), if_neg (by omega), if_neg (by omega), if_neg (by omega), if_neg (by omega), if_neg (by omega), if_pos (by omega)]; omega⟩
theorem fc_52 : ∀ i, i < 20 → imgF (92 + i) = 52 ∧ imgC (92 + i) = i := fun i hi => ⟨by unfold imgF; rw [if_neg (by omega), if_neg (by omega), if_neg (by omega), if_neg (by omega), if_neg (by omega), if_pos (by omega)], by unfold imgC; rw [if_neg (by omega), if_neg (by omega), if_neg (by omega), if_neg (by omega), if_neg (by omega), if_neg (by omega), if_neg (by omega), if_pos (by omega)]; omega⟩
theorem fc_53 : ∀ i, i < 20 → imgF (112 + i) = 53 ∧ imgC (112 + i) = i := fun i hi => ⟨by unfold imgF; rw [if_neg (by omega), if_neg (by omega), if_neg (by omega), if_neg (by omega), if_neg (by omega), if_neg (by omega), if_pos (by omega)], by unfold imgC; rw [if_neg (by omega), if_neg (by omega), if_neg (by omega), if_neg (by omega), if_neg (by omega), if_neg (by omega), if_neg (by omega), if_neg (by omega), if_pos (by omega)]; omega⟩
theorem fc_54 : ∀ i, i < 20 → imgF (132 + i) = 54 ∧ imgC (132 + i) = i := fun i hi => ⟨by unfold imgF; rw [if_neg (by omega), if_neg (by omega), if_neg (by omega), if_neg (by omega), if_neg (by omega), if_neg (by omega), if_neg (by omega), if_pos (by omega)], by unfold imgC; rw [if_neg (by omega), if_neg (by omega), if_neg (by omega), if_neg (by omega), if_neg (by omega), if_neg (by omega), if_neg (by omega), if_neg (by omega), if_neg (by omega), if_pos (by omega)]; omega⟩
theorem fc_56 : ∀ i, i < 8 → imgF (152 + i) = 56 ∧ imgC (152 + i) = i := fun i hi => ⟨by unfold imgF; rw [if_neg (by omega), if_neg (by omega), if_neg (by omega), if_neg (by omega), if_neg (by omega), if_neg (by omega), if_neg (by omega), if_neg (by omega), if_pos (by omega)], by unfold imgC; rw [if_neg (by omega), if_neg (by omega), if_neg (by omega), if_neg (by omega), if_neg (by omega), if_neg (by omega), if_neg (by omega), if_neg (by omega), if_neg (by omega), if_neg (by omega), if_pos (by omega)]; omega⟩
theorem fc_57 : ∀ i, i < 8 → imgF (160 + i) = 57 ∧ imgC (160 + i) = i := fun i hi => ⟨by unfold imgF; rw [if_neg (by omega), if_neg (by omega), if_neg (by omega), if_neg (by omega), if_neg (by omega), if_neg (by omega), if_neg (by omega), if_neg (by omega), if_neg (by omega), if_pos (by omega)], by unfold imgC; rw [if_neg (by omega), if_neg (by omega), if_neg (by omega), if_neg (by omega), if_neg (by omega), if_neg (by omega), if_neg (by omega), if_neg (by omega), if_neg (by omega), if_neg (by omega), if_neg (by omega), if_pos (by omega)]; omega⟩
theorem fc_58 : ∀ i, i < 8 → imgF (168 + i) = 58 ∧ imgC (168 + i) = i := fun i hi => ⟨by unfold imgF; rw [if_neg (by omega), if_neg (by omega), if_neg (by omega), if_neg (by omega), if_neg (by omega), if_neg (by omega), if_neg (by omega), if_neg (by omega), if_neg (by omega), if_neg (by omega), if_pos (by omega)], by unfold imgC; rw [if_neg (by omega), if_neg (by omega), if_neg (by omega), if_neg (by omega), if_neg (by omega), if_neg (by omega), if_neg (by omega), if_neg (by omega), if_neg (by omega), if_neg (by omega), if_neg (by omega), if_neg (by omega), if_pos (by omega)]; omega⟩
theorem fc_59 : ∀ i, i < 8 → imgF (176 + i) = 59 ∧ imgC (176 + i) = i := fun i hi => ⟨by unfold imgF; rw [if_neg (by omega), if_neg (by omega), if_neg (by omega), if_neg (by omega), if_neg (by omega), if_neg (by omega), if_neg (by omega), if_neg (by omega), if_neg (by omega), if_neg (by omega), if_neg (by omega), if_pos (by omega)], by unfold imgC; rw [if_neg (by omega), if_neg (by omega), if_neg (by omega), if_neg (by omega), if_neg (by omega), if_neg (by omega), if_neg (by omega), if_neg (by omega), if_neg (by omega), if_neg (by omega), if_neg (by omega), if_neg (by omega), if_neg (by omega), if_pos (by omega)]; omega⟩
theorem fc_61 : ∀ i, i < 4 → imgF (184 + i) = 61 ∧ imgC (184 + i) = i := fun i hi => ⟨by unfold imgF; rw [if_neg (by omega), if_neg (by omega), if_neg (by omega), if_neg (by omega), if_neg (by omega), if_neg (by omega), if_neg (by omega), if_neg (by omega), if_neg (by omega), if_neg (by omega), if_neg (by omega), if_neg (by omega), if_pos (by omega)], by unfold imgC; rw [if_neg (by omega), if_neg (by omega), if_neg (by omega), if_neg (by omega), if_neg (by omega), if_neg (by omega), if_neg (by omega), if_neg (by omega), if_neg (by omega), if_neg (by omega), if_neg (by omega), if_neg (by omega), if_neg (by omega), if_neg (by omega), if_pos (by omega)]; omega⟩
theorem fc_62 : ∀ i, i < 24 → imgF (188 + i) = 62 ∧ imgC (188 + i) = i := fun i hi => ⟨by unfold imgF; rw [if_neg (by omega), if_neg (by omega), if_neg (by omega), if_neg (by omega), if_neg (by omega), if_neg (by omega), if_neg (by omega), if_neg (by omega), if_neg (by omega), if_neg (by omega), if_neg (by omega), if_neg (by omega), if_neg (by omega), if_pos (by omega)], by unfold imgC; rw [if_neg (by omega), if_neg (by omega), if_neg (by omega), if_neg (by omega), if_neg (by omega), if_neg (by omega), if_neg (by omega), if_neg (by omega), if_neg (by omega), if_neg (by omega), if_neg (by omega), if_neg (by omega), if_neg (by omega), if_neg (by omega), if_neg (by omega), if_pos (by omega)]; omega⟩
theorem fc_63 : ∀ i, i < 4 → imgF (212 + i) = 63 ∧ imgC (212 + i) = i := fun i hi => ⟨by unfold imgF; rw [if_neg (by omega), if_neg (by omega), if_neg (by omega), if_neg (by omega), if_neg (by omega), if_neg (by omega), if_neg (by omega), if_neg (by omega), if_neg (by omega), if_neg (by omega), if_neg (by omega), if_neg (by omega), if_neg (by omega), if_neg (by omega), if_pos (by omega)], by unfold imgC; rw [if_neg (by omega), if_neg (by omega), if_neg (by omega), if_neg (by omega), if_neg (by omega), if_neg (by omega), if_neg (by omega), if_neg (by omega), if_neg (by omega), if_neg (by omega), if_neg (by omega), if_neg (by omega), if_neg (by omega), if_neg (by omega), if_neg (by omega), if_neg (by omega), if_pos (by omega)]; omega⟩
theorem fc_64 : ∀ i, i < 32 → imgF (216 + i) = 64 ∧ imgC (216 + i) = i := fun i hi => ⟨by unfold imgF; rw [if_neg (by omega), if_neg (by omega), if_neg (by omega), if_neg (by omega), if_neg (by omega), if_neg (by omega), if_neg (by omega), if_neg (by omega), if_neg (by omega), if_neg (by omega), if_neg (by omega), if_neg (by omega), if_neg (by omega), if_neg (by omega), if_neg (by omega), if_pos (by omega)], by unfold imgC; rw [if_neg (by omega), if_neg (by omega), if_neg (by omega), if_neg (by omega), if_neg (by omega), if_neg (by omega), if_neg (by omega), if_neg (by omega), if_neg (by omega), if_neg (by omega), if_neg (by omega), if_neg (by omega), if_neg (by omega), if_neg (by omega), if_neg (by omega), if_neg (by omega), if_neg (by omega), if_pos (by omega)]; omega⟩
theorem fc_65 : ∀ i, i < 13 → imgF (248 + i) = 65 ∧ imgC (248 + i) = i := fun i hi => ⟨by unfold imgF; rw [if_neg (by omega), if_neg (by omega), if_neg (by omega), if_neg (by omega), if_neg (by omega), if_neg (by omega), if_neg (by omega), if_neg (by omega), if_neg (by omega), if_neg (by omega), if_neg (by omega), if_neg (by omega), if_neg (by omega), if_neg (by omega), if_neg (by omega), if_neg (by omega), if_pos (by omega)], by unfold imgC; rw [if_neg (by omega), if_neg (by omega), if_neg (by omega), if_neg (by omega), if_neg (by omega), if_neg (by omega), if_neg (by omega), if_neg (by omega), if_neg (by omega), if_neg (by omega), if_neg (by omega), if_neg (by omega), if_neg (by omega), if_neg (by omega), if_neg (by omega), if_neg (by omega), if_neg (by omega), if_neg (by omega), if_pos (by omega)]; omega⟩
theorem mc_keepImage {Z : ZT} {d : Nat} {G : GH} {Q : TR → GH → Prop} {m : Nat} {S X : St} {k : Nat} (hM : MOK G m) (hk : k < 12) (q : Q (.inl none) (pM G m S (up2 (imgP k 261 S X) 0 83 (320 * (k : Int) + 261)))) : TC Z (d + 2) mi_X5_keepImage [tR (some m), tI (k : Int)] (pM G m S X) Q := by
  have hp0 : ((k : Int) * 320).toNat = 320 * k := by omega
  have s1 : up2 (X) 66 (320 * k) (S 0 38) = imgP k 1 S X := by have := imgP_s (k := k) (n := 0) (p := 320 * k) (S := S) (X := X) (v := S 0 38) rfl rfl; rwa [imgP_0] at this
  have s2 : up2 (imgP k 1 S X) 66 (320 * k + 1) (S 0 39) = imgP k 2 S X := imgP_s rfl rfl
  have s3 : up2 (imgP k 2 S X) 66 (320 * k + 2) (S 0 40) = imgP k 3 S X := imgP_s rfl rfl
  have s4 : up2 (imgP k 3 S X) 66 (320 * k + 3) (S 0 41) = imgP k 4 S X := imgP_s rfl rfl
  have s5 : up2 (imgP k 4 S X) 66 (320 * k + 4) (S 0 42) = imgP k 5 S X := imgP_s rfl rfl
  have s6 : up2 (imgP k 5 S X) 66 (320 * k + 5) (S 0 43) = imgP k 6 S X := imgP_s rfl rfl
  have s7 : up2 (imgP k 6 S X) 66 (320 * k + 6) (S 0 44) = imgP k 7 S X := imgP_s rfl rfl
  have s8 : up2 (imgP k 7 S X) 66 (320 * k + 7) (S 0 45) = imgP k 8 S X := imgP_s rfl rfl
  have s9 : up2 (imgP k 8 S X) 66 (320 * k + 8) (S 0 46) = imgP k 9 S X := imgP_s rfl rfl
  have s10 : up2 (imgP k 9 S X) 66 (320 * k + 9) (S 0 47) = imgP k 10 S X := imgP_s rfl rfl
  have s11 : up2 (imgP k 10 S X) 66 (320 * k + 10) (S 0 55) = imgP k 11 S X := imgP_s rfl rfl
  have s12 : up2 (imgP k 11 S X) 66 (320 * k + 11) (S 0 60) = imgP k 12 S X := imgP_s rfl rfl
  have h1 : ((k : Int) * 320 + 1).toNat = 320 * k + 1 := by omega
  have h2 : ((k : Int) * 320 + 2).toNat = 320 * k + 2 := by omega
  have h3 : ((k : Int) * 320 + 3).toNat = 320 * k + 3 := by omega
  have h4 : ((k : Int) * 320 + 4).toNat = 320 * k + 4 := by omega
  have h5 : ((k : Int) * 320 + 5).toNat = 320 * k + 5 := by omega
  have h6 : ((k : Int) * 320 + 6).toNat = 320 * k + 6 := by omega
  have h7 : ((k : Int) * 320 + 7).toNat = 320 * k + 7 := by omega
  have h8 : ((k : Int) * 320 + 8).toNat = 320 * k + 8 := by omega
  have h9 : ((k : Int) * 320 + 9).toNat = 320 * k + 9 := by omega
  have h10 : ((k : Int) * 320 + 10).toNat = 320 * k + 10 := by omega
  have h11 : ((k : Int) * 320 + 11).toNat = 320 * k + 11 := by omega
  refine c_X5_keepImage hM ⟨⟨by omega, by omega⟩, ⟨by omega, by omega⟩, ⟨by omega, by omega⟩, ⟨by omega, by omega⟩, ⟨by omega, by omega⟩, ⟨by omega, by omega⟩, ⟨by omega, by omega⟩, r_X5_keepImage_89 hM ⟨⟨by omega, by omega⟩, ⟨by omega, by omega⟩, ⟨by omega, by omega⟩, ⟨by omega, by omega⟩, ⟨by omega, by omega⟩, ?_⟩⟩
  rw [hp0, h1, h2, h3, h4, h5, h6, h7, h8, h9, h10, h11, s1, s2, s3, s4, s5, s6, s7, s8, s9, s10, s11, s12]
  have e : (k : Int) * 320 + 12 + 20 + 20 + 20 + 20 + 20 + 20 + 20 + 8 + 8 + 8 + 8 + 4 + 24 + 4 + 32 + 13 = 320 * (k : Int) + 261 := by omega
  rw [← e] at q
  exact mc_keepsRow (base := 12) 20 hM hk (by omega) (by decide) (by decide) rfl rfl (mk_48 hM) (ml_48 hM) (by decide) (by decide) fc_48 (r_X5_keepImage_168 hM (mc_keepsRow (base := 32) 20 hM hk (by omega) (by decide) (by decide) rfl rfl (mk_49 hM) (ml_49 hM) (by decide) (by decide) fc_49 (r_X5_keepImage_180 hM (mc_keepsRow (base := 52) 20 hM hk (by omega) (by decide) (by decide) rfl rfl (mk_50 hM) (ml_50 hM) (by decide) (by decide) fc_50 (r_X5_keepImage_192 hM (mc_keepsRow (base := 72) 20 hM hk (by omega) (by decide) (by decide) rfl rfl (mk_51 hM) (ml_51 hM) (by decide) (by decide) fc_51 (r_X5_keepImage_204 hM (mc_keepsRow (base := 92) 20 hM hk (by omega) (by decide) (by decide) rfl rfl (mk_52 hM) (ml_52 hM) (by decide) (by decide) fc_52 (r_X5_keepImage_216 hM (mc_keepsRow (base := 112) 20 hM hk (by omega) (by decide) (by decide) rfl rfl (mk_53 hM) (ml_53 hM) (by decide) (by decide) fc_53 (r_X5_keepImage_228 hM (mc_keepsRow (base := 132) 20 hM hk (by omega) (by decide) (by decide) rfl rfl (mk_54 hM) (ml_54 hM) (by decide) (by decide) fc_54 (r_X5_keepImage_240 hM (mc_keepsRow (base := 152) 8 hM hk (by omega) (by decide) (by decide) rfl rfl (mk_56 hM) (ml_56 hM) (by decide) (by decide) fc_56 (r_X5_keepImage_252 hM (mc_keepsRow (base := 160) 8 hM hk (by omega) (by decide) (by decide) rfl rfl (mk_57 hM) (ml_57 hM) (by decide) (by decide) fc_57 (r_X5_keepImage_264 hM (mc_keepsRow (base := 168) 8 hM hk (by omega) (by decide) (by decide) rfl rfl (mk_58 hM) (ml_58 hM) (by decide) (by decide) fc_58 (r_X5_keepImage_276 hM (mc_keepsRow (base := 176) 8 hM hk (by omega) (by decide) (by decide) rfl rfl (mk_59 hM) (ml_59 hM) (by decide) (by decide) fc_59 (r_X5_keepImage_288 hM (mc_keepsRow (base := 184) 4 hM hk (by omega) (by decide) (by decide) rfl rfl (mk_61 hM) (ml_61 hM) (by decide) (by decide) fc_61 (r_X5_keepImage_299 hM (mc_keepsRow (base := 188) 24 hM hk (by omega) (by decide) (by decide) rfl rfl (mk_62 hM) (ml_62 hM) (by decide) (by decide) fc_62 (r_X5_keepImage_311 hM (mc_keepsRow (base := 212) 4 hM hk (by omega) (by decide) (by decide) rfl rfl (mk_63 hM) (ml_63 hM) (by decide) (by decide) fc_63 (r_X5_keepImage_322 hM (mc_keepsRow (base := 216) 32 hM hk (by omega) (by decide) (by decide) rfl rfl (mk_64 hM) (ml_64 hM) (by decide) (by decide) fc_64 (r_X5_keepImage_334 hM (mc_keepsRow (base := 248) 13 hM hk (by omega) (by decide) (by decide) rfl rfl (mk_65 hM) (ml_65 hM) (by decide) (by decide) fc_65 (r_X5_keepImage_347 hM (q))))))))))))))))))))))))))))))))
theorem mc_takeImage {Z : ZT} {d : Nat} {G : GH} {Q : TR → GH → Prop} {m : Nat} {S X : St} {k : Nat} (hM : MOK G m) (hk : k < 12) (q : Q (.inl none) (pM G m (takP k 261 S X) (up2 X 0 83 (320 * (k : Int) + 261)))) : TC Z (d + 2) mi_X5_takeImage [tR (some m), tI (k : Int)] (pM G m S X) Q := by
  have hp0 : ((k : Int) * 320).toNat = 320 * k := by omega
  have s1 : up2 S 0 38 (X 66 (320 * k)) = takP k 1 S X := by have := takP_s (k := k) (n := 0) (p := 320 * k) (S := S) (X := X) (by decide) rfl rfl rfl; rwa [takP_0] at this
  have s2 : up2 (takP k 1 S X) 0 39 (X 66 (320 * k + 1)) = takP k 2 S X := takP_s (by decide) rfl rfl rfl
  have s3 : up2 (takP k 2 S X) 0 40 (X 66 (320 * k + 2)) = takP k 3 S X := takP_s (by decide) rfl rfl rfl
  have s4 : up2 (takP k 3 S X) 0 41 (X 66 (320 * k + 3)) = takP k 4 S X := takP_s (by decide) rfl rfl rfl
  have s5 : up2 (takP k 4 S X) 0 42 (X 66 (320 * k + 4)) = takP k 5 S X := takP_s (by decide) rfl rfl rfl
  have s6 : up2 (takP k 5 S X) 0 43 (X 66 (320 * k + 5)) = takP k 6 S X := takP_s (by decide) rfl rfl rfl
  have s7 : up2 (takP k 6 S X) 0 44 (X 66 (320 * k + 6)) = takP k 7 S X := takP_s (by decide) rfl rfl rfl
  have s8 : up2 (takP k 7 S X) 0 45 (X 66 (320 * k + 7)) = takP k 8 S X := takP_s (by decide) rfl rfl rfl
  have s9 : up2 (takP k 8 S X) 0 46 (X 66 (320 * k + 8)) = takP k 9 S X := takP_s (by decide) rfl rfl rfl
  have s10 : up2 (takP k 9 S X) 0 47 (X 66 (320 * k + 9)) = takP k 10 S X := takP_s (by decide) rfl rfl rfl
  have s11 : up2 (takP k 10 S X) 0 55 (X 66 (320 * k + 10)) = takP k 11 S X := takP_s (by decide) rfl rfl rfl
  have s12 : up2 (takP k 11 S X) 0 60 (X 66 (320 * k + 11)) = takP k 12 S X := takP_s (by decide) rfl rfl rfl
  have h1 : ((k : Int) * 320 + 1).toNat = 320 * k + 1 := by omega
  have h2 : ((k : Int) * 320 + 2).toNat = 320 * k + 2 := by omega
  have h3 : ((k : Int) * 320 + 3).toNat = 320 * k + 3 := by omega
  have h4 : ((k : Int) * 320 + 4).toNat = 320 * k + 4 := by omega
  have h5 : ((k : Int) * 320 + 5).toNat = 320 * k + 5 := by omega
  have h6 : ((k : Int) * 320 + 6).toNat = 320 * k + 6 := by omega
  have h7 : ((k : Int) * 320 + 7).toNat = 320 * k + 7 := by omega
  have h8 : ((k : Int) * 320 + 8).toNat = 320 * k + 8 := by omega
  have h9 : ((k : Int) * 320 + 9).toNat = 320 * k + 9 := by omega
  have h10 : ((k : Int) * 320 + 10).toNat = 320 * k + 10 := by omega
  have h11 : ((k : Int) * 320 + 11).toNat = 320 * k + 11 := by omega
  refine c_X5_takeImage hM ⟨⟨by omega, by omega⟩, ⟨by omega, by omega⟩, ⟨by omega, by omega⟩, ⟨by omega, by omega⟩, ⟨by omega, by omega⟩, ⟨by omega, by omega⟩, ⟨by omega, by omega⟩, r_X5_takeImage_89 hM ⟨⟨by omega, by omega⟩, ⟨by omega, by omega⟩, ⟨by omega, by omega⟩, ⟨by omega, by omega⟩, ⟨by omega, by omega⟩, ?_⟩⟩
  rw [hp0, h1, h2, h3, h4, h5, h6, h7, h8, h9, h10, h11, s1, s2, s3, s4, s5, s6, s7, s8, s9, s10, s11, s12]
  have e : (k : Int) * 320 + 12 + 20 + 20 + 20 + 20 + 20 + 20 + 20 + 8 + 8 + 8 + 8 + 4 + 24 + 4 + 32 + 13 = 320 * (k : Int) + 261 := by omega
  rw [← e] at q
  exact mc_takesRow (base := 12) 20 hM hk (by omega) (by decide) (by decide) rfl rfl (mk_48 hM) (ml_48 hM) (by decide) (by decide) fc_48 (r_X5_takeImage_168 hM (mc_takesRow (base := 32) 20 hM hk (by omega) (by decide) (by decide) rfl rfl (mk_49 hM) (ml_49 hM) (by decide) (by decide) fc_49 (r_X5_takeImage_180 hM (mc_takesRow (base := 52) 20 hM hk (by omega) (by decide) (by decide) rfl rfl (mk_50 hM) (ml_50 hM) (by decide) (by decide) fc_50 (r_X5_takeImage_192 hM (mc_takesRow (base := 72) 20 hM hk (by omega) (by decide) (by decide) rfl rfl (mk_51 hM) (ml_51 hM) (by decide) (by decide) fc_51 (r_X5_takeImage_204 hM (mc_takesRow (base := 92) 20 hM hk (by omega) (by decide) (by decide) rfl rfl (mk_52 hM) (ml_52 hM) (by decide) (by decide) fc_52 (r_X5_takeImage_216 hM (mc_takesRow (base := 112) 20 hM hk (by omega) (by decide) (by decide) rfl rfl (mk_53 hM) (ml_53 hM) (by decide) (by decide) fc_53 (r_X5_takeImage_228 hM (mc_takesRow (base := 132) 20 hM hk (by omega) (by decide) (by decide) rfl rfl (mk_54 hM) (ml_54 hM) (by decide) (by decide) fc_54 (r_X5_takeImage_240 hM (mc_takesRow (base := 152) 8 hM hk (by omega) (by decide) (by decide) rfl rfl (mk_56 hM) (ml_56 hM) (by decide) (by decide) fc_56 (r_X5_takeImage_252 hM (mc_takesRow (base := 160) 8 hM hk (by omega) (by decide) (by decide) rfl rfl (mk_57 hM) (ml_57 hM) (by decide) (by decide) fc_57 (r_X5_takeImage_264 hM (mc_takesRow (base := 168) 8 hM hk (by omega) (by decide) (by decide) rfl rfl (mk_58 hM) (ml_58 hM) (by decide) (by decide) fc_58 (r_X5_takeImage_276 hM (mc_takesRow (base := 176) 8 hM hk (by omega) (by decide) (by decide) rfl rfl (mk_59 hM) (ml_59 hM) (by decide) (by decide) fc_59 (r_X5_takeImage_288 hM (mc_takesRow (base := 184) 4 hM hk (by omega) (by decide) (by decide) rfl rfl (mk_61 hM) (ml_61 hM) (by decide) (by decide) fc_61 (r_X5_takeImage_299 hM (mc_takesRow (base := 188) 24 hM hk (by omega) (by decide) (by decide) rfl rfl (mk_62 hM) (ml_62 hM) (by decide) (by decide) fc_62 (r_X5_takeImage_311 hM (mc_takesRow (base := 212) 4 hM hk (by omega) (by decide) (by decide) rfl rfl (mk_63 hM) (ml_63 hM) (by decide) (by decide) fc_63 (r_X5_takeImage_322 hM (mc_takesRow (base := 216) 32 hM hk (by omega) (by decide) (by decide) rfl rfl (mk_64 hM) (ml_64 hM) (by decide) (by decide) fc_64 (r_X5_takeImage_334 hM (mc_takesRow (base := 248) 13 hM hk (by omega) (by decide) (by decide) rfl rfl (mk_65 hM) (ml_65 hM) (by decide) (by decide) fc_65 (r_X5_takeImage_347 hM (q))))))))))))))))))))))))))))))))
