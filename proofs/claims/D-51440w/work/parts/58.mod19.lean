/-! THE MODEL'S METHODS, 19: its start -/
/-- what is not there yet is zero -/
def Fz (G : GH) : Prop := ∀ a : Nat, gn G ≤ a → gK G a = 0 ∧ (∀ f : Nat, fI G f a = 0 ∧ fR G f a = none) ∧ ∀ i : Nat, aI G a i = 0 ∧ aR G a i = none
/-- the same at an address -/
def SmA (G G' : GH) (a : Nat) : Prop := gK G' a = gK G a ∧ gL G' a = gL G a ∧ gP G' a = gP G a ∧ (∀ f, fI G' f a = fI G f a ∧ fR G' f a = fR G f a) ∧ ∀ i, aI G' a i = aI G a i ∧ aR G' a i = aR G a i
theorem SmA.rf {G : GH} {a : Nat} : SmA G G a := ⟨rfl, rfl, rfl, fun _ => ⟨rfl, rfl⟩, fun _ => ⟨rfl, rfl⟩⟩
theorem SmA.trans {A B C : GH} {a : Nat} (h : SmA A B a) (k : SmA B C a) : SmA A C a := by
  obtain ⟨h1, h2, h3, h4, h5⟩ := h
  obtain ⟨k1, k2, k3, k4, k5⟩ := k
  exact ⟨k1.trans h1, k2.trans h2, k3.trans h3, fun f => ⟨(k4 f).1.trans (h4 f).1, (k4 f).2.trans (h4 f).2⟩, fun i => ⟨(k5 i).1.trans (h5 i).1, (k5 i).2.trans (h5 i).2⟩⟩
theorem SmA.new {G : GH} {k n r N a : Nat} (h : a ≠ gn G) : SmA G (newG G k n r N) a := ⟨if_neg h, if_neg h, if_neg h, fun _ => ⟨rfl, rfl⟩, fun _ => ⟨rfl, rfl⟩⟩
theorem SmA.setI {G : GH} {f b a : Nat} {v : Int} (h : a ≠ b) : SmA G (setI G f b v) a := ⟨rfl, rfl, rfl, fun _ => ⟨up2_ne (Or.inr h), rfl⟩, fun _ => ⟨rfl, rfl⟩⟩
theorem SmA.setR {G : GH} {f b a : Nat} {v : Option Nat} (h : a ≠ b) : SmA G (setR G f b v) a := ⟨rfl, rfl, rfl, fun _ => ⟨rfl, up2_ne (Or.inr h)⟩, fun _ => ⟨rfl, rfl⟩⟩
theorem SmA.setA {G : GH} {b i a : Nat} {v : Int} (h : a ≠ b) : SmA G (setA G b i v) a := ⟨rfl, rfl, rfl, fun _ => ⟨rfl, rfl⟩, fun _ => ⟨up2_ne (Or.inl h), rfl⟩⟩
theorem SmA.setQ {G : GH} {b i a : Nat} {v : Option Nat} (h : a ≠ b) : SmA G (setQ G b i v) a := ⟨rfl, rfl, rfl, fun _ => ⟨rfl, rfl⟩, fun _ => ⟨rfl, up2_ne (Or.inl h)⟩⟩
theorem Fz.new {G : GH} {k n r N : Nat} (h : Fz G) : Fz (newG G k n r N) := fun a ha => by
  have ha : gn G + 1 ≤ a := ha
  obtain ⟨h1, h2, h3⟩ := h a (by omega)
  exact ⟨(if_neg (by omega)).trans h1, h2, h3⟩
theorem Fz.sm {G G' : GH} (h : Fz G) (hn : gn G ≤ gn G') (k : ∀ a, gn G' ≤ a → SmA G G' a) : Fz G' := fun a ha => by
  obtain ⟨h1, h2, h3⟩ := h a (by omega)
  obtain ⟨k1, k2, k3, k4, k5⟩ := k a ha
  exact ⟨k1.trans h1, fun f => ⟨(k4 f).1.trans (h2 f).1, (k4 f).2.trans (h2 f).2⟩, fun i => ⟨(k5 i).1.trans (h3 i).1, (k5 i).2.trans (h3 i).2⟩⟩
/-- where the constructor stands: j rows are there -/
def IS (G0 G : GH) (t j : Nat) (V : Nat → Int) (W : Nat → Nat → Int) : Prop :=
  gn G = t + 1 + j ∧ gs G ≤ gs G0 + 4000 * j ∧ gK G t = 5 ∧ (∀ q ∈ MAR.take j, fR G q.1 t = some (t + q.2.1) ∧ gK G (t + q.2.1) = q.2.2.1 ∧ gL G (t + q.2.1) = q.2.2.2) ∧ (∀ f, fI G f t = V f) ∧ (∀ k i, 0 < k → aI G (t + k) i = W k i) ∧ Fz G ∧ (∀ a, a < t → SmA G0 G a) ∧ gP G t = gP G0 t
section INI
variable {G0 G : GH} {t j : Nat} {V : Nat → Int} {W : Nat → Nat → Int}
theorem IS.int (h : IS G0 G t j V W) (f : Nat) (v : Int) : IS G0 (setI G f t v) t j (up1 V f v) W := by
  obtain ⟨h1, h2, h3, h4, h5, h6, h7, h8, h9⟩ := h
  refine ⟨h1, h2, h3, h4, fun f' => ?_, h6, h7.sm (Nat.le_refl _) (fun a ha => SmA.setI (by have : gn G ≤ a := ha; omega)), fun a ha => (h8 a ha).trans (SmA.setI (by omega)), h9⟩
  show (if f' = f ∧ t = t then v else fI G f' t) = if f' = f then v else V f'
  by_cases e : f' = f
  · rw [if_pos ⟨e, rfl⟩, if_pos e]
  · rw [if_neg (fun q => e q.1), if_neg e]; exact h5 f'
theorem IS.arr (h : IS G0 G t j V W) {k n N f : Nat} (hq : MAR[j]? = some (f, j + 1, k, n)) (hN : N ≤ 4000) : IS G0 (setR (newG G k n t N) f t (some (gn G))) t (j + 1) V W := by
  obtain ⟨h1, h2, h3, h4, h5, h6, h7, h8, h9⟩ := h
  have hne : ∀ q ∈ MAR.take j, q.1 ≠ f ∧ q.2.1 ≠ j + 1 := by
    have hj : j < MAR.length := by
      rcases Nat.lt_or_ge j MAR.length with h | h
      · exact h
      · rw [List.getElem?_eq_none h] at hq; cases hq
    have all : ∀ j : Fin 24, ∀ q ∈ MAR.take j.val, q.1 ≠ (MAR.getD j.val (0, 0, 0, 0)).1 ∧ q.2.1 ≠ j.val + 1 := by decide +kernel
    have := all ⟨j, hj⟩
    simp only [List.getD_eq_getElem?_getD, hq, Option.getD_some] at this
    exact this
  have gk : ∀ a, gK (newG G k n t N) a = if a = gn G then k else gK G a := fun a => rfl
  refine ⟨by show gn G + 1 = _; omega, by show gs G + N ≤ _; omega, ?_, fun q hq' => ?_, h5, h6, (h7.new).sm (Nat.le_refl _) (fun a ha => SmA.setR (by have : gn G + 1 ≤ a := ha; omega)), fun a ha => ((h8 a ha).trans (SmA.new (by omega))).trans (SmA.setR (by omega)), ?_⟩
  · show (if t = gn G then k else gK G t) = 5
    rw [if_neg (by omega)]; exact h3
  · rw [List.take_add_one, hq] at hq'
    rcases List.mem_append.mp hq' with hm | hm
    · obtain ⟨n1, n2⟩ := hne q hm
      obtain ⟨g1, g2, g3⟩ := h4 q hm
      refine ⟨?_, ?_, ?_⟩
      · show (if q.1 = f ∧ t = t then _ else fR G q.1 t) = _
        rw [if_neg (fun z => n1 z.1)]; exact g1
      · show (if t + q.2.1 = gn G then k else gK G (t + q.2.1)) = _
        rw [if_neg (by omega)]; exact g2
      · show (if t + q.2.1 = gn G then n else gL G (t + q.2.1)) = _
        rw [if_neg (by omega)]; exact g3
    · simp only [Option.toList, List.mem_singleton] at hm
      subst hm
      refine ⟨?_, ?_, ?_⟩
      · show (if f = f ∧ t = t then some (gn G) else _) = some (t + (j + 1))
        rw [if_pos ⟨rfl, rfl⟩]
        congr 1
        omega
      · show (if t + (j + 1) = gn G then k else _) = k
        rw [if_pos (by omega)]
      · show (if t + (j + 1) = gn G then n else _) = n
        rw [if_pos (by omega)]
  · show (if t = gn G then t else gP G t) = _
    rw [if_neg (by omega)]; exact h9
theorem IS.num (h : IS G0 G t j V W) {k i : Nat} {v : Int} (h0 : 0 < k) (hk : k ≤ j) : IS G0 (setA G (t + k) i v) t j V (up2 W k i v) := by
  obtain ⟨h1, h2, h3, h4, h5, h6, h7, h8, h9⟩ := h
  refine ⟨h1, h2, h3, h4, h5, fun k' i' hk' => ?_, h7.sm (Nat.le_refl _) (fun a ha => SmA.setA (by have : gn G ≤ a := ha; omega)), fun a ha => (h8 a ha).trans (SmA.setA (by omega)), h9⟩
  show (if t + k' = t + k ∧ i' = i then v else aI G (t + k') i') = if k' = k ∧ i' = i then v else W k' i'
  by_cases e : k' = k ∧ i' = i
  · rw [if_pos ⟨by omega, e.2⟩, if_pos e]
  · rw [if_neg (fun q => e ⟨by omega, q.2⟩), if_neg e]; exact h6 k' i' hk'
theorem IS.row (h : IS G0 G t j V W) {f k kd L : Nat} (hq : (f, k, kd, L) ∈ MAR.take j) : fR G f t = some (t + k) ∧ gK G (t + k) = kd ∧ gL G (t + k) = L := h.2.2.2.1 _ hq
end INI
/-- the vectors that a heap holds at m -/
def rdS (G : GH) (m : Nat) : St := fun f c => if f = 0 then fI G c m else aI G (m + mAL.findIdx (fun x => x == f)) c
theorem pM_rd {G : GH} {m : Nat} : pM G m (rdS G m) (rdS G m) = G := by
  refine gh_ext rfl rfl ?_ rfl ?_ rfl
  · funext f a
    show (if a = m then (if mS f = true then rdS G m 0 f else rdS G m 0 f) else fI G f a) = fI G f a
    by_cases h : a = m
    · rw [if_pos h, h]
      have : rdS G m 0 f = fI G f m := if_pos rfl
      rw [this]
      split <;> rfl
    · rw [if_neg h]
  · funext a i
    show (if m < a ∧ a ≤ m + 24 then (if mS (mAL.getD (a - m) 0) = true then rdS G m (mAL.getD (a - m) 0) i else rdS G m (mAL.getD (a - m) 0) i) else aI G a i) = aI G a i
    by_cases h : m < a ∧ a ≤ m + 24
    · rw [if_pos h]
      have hne := mAL_pos (j := a - m) (by omega) (by omega)
      have hidx : ∀ j : Fin 25, (j : Nat) ≠ 0 → mAL.findIdx (fun x => x == mAL.getD j 0) = j := by decide +kernel
      have e : rdS G m (mAL.getD (a - m) 0) i = aI G a i := by
        have h2 := hidx ⟨a - m, by omega⟩ (by show a - m ≠ 0; omega)
        have h2 : mAL.findIdx (fun x => x == mAL.getD (a - m) 0) = a - m := h2
        unfold rdS
        rw [if_neg hne, h2, Nat.add_sub_of_le (Nat.le_of_lt h.1)]
      rw [e]
      split <;> rfl
    · rw [if_neg h]
/-- the exchange at the start -/
def StartS (S : St) : Prop := (S 0 38 = 3 ∧ S 0 39 = 2 ∧ S 0 40 = 2 ∧ S 0 41 = 0 ∧ S 0 42 = 1 ∧ S 0 43 = 0 ∧ S 0 44 = 0 ∧ S 0 45 = 1 ∧ S 0 46 = 0 ∧ S 0 47 = 0 ∧ S 0 55 = 0 ∧ S 0 60 = 1) ∧ S 61 0 = 4 ∧ (S 62 0 = 100 ∧ S 62 1 = 101 ∧ S 62 2 = 115 ∧ S 62 3 = 107) ∧ S 63 0 = 2 ∧ (S 64 0 = 4 ∧ S 64 1 = 5) ∧ ∀ i, S 65 i = 0
def StartX (X : St) : Prop := (X 0 31 = 0 ∧ X 0 33 = 0 ∧ X 0 34 = 0 ∧ X 0 35 = -1 ∧ X 0 37 = 0 ∧ X 0 67 = 0 ∧ X 0 68 = 0) ∧ ∀ i, X 69 i = 0
theorem Ok.start {S : St} (h : StartS S) : Ok S := by
  obtain ⟨⟨c38, c39, c40, c41, c42, c43, c44, c45, c46, c47, c55, c60⟩, h61, ⟨h0, h1, h2, h3⟩, h63, ⟨m0, m1⟩, h65⟩ := h
  have n47 : ∀ c : Nat, ¬ c < (S 0 47).toNat := fun c => by rw [c47]; exact Nat.not_lt_zero _
  have n55 : ∀ c : Nat, ¬ c < (S 0 55).toNat := fun c => by rw [c55]; exact Nat.not_lt_zero _
  have g0 : ∀ g : Nat, g < (S 0 60).toNat → g = 0 := fun g hg => by rw [c60] at hg; have : (1 : Int).toNat = 1 := rfl; omega
  refine ⟨⟨⟨by omega, fun c h => absurd h (n47 c), fun c h => absurd h (n55 c), fun g hg => ?_⟩, fun c _ h => absurd h (n47 c), fun c h => absurd h (n47 c), fun c c' _ h => absurd h (n47 c'), fun c h => absurd h (n47 c), fun c h => absurd h (n47 c), fun c _ h => absurd h (n47 c), fun c _ h => absurd h (n47 c), fun c h => absurd h (n55 c), fun c _ h => absurd h (n55 c), by omega, fun g k hg hk => ?_, fun g g' hgg hg' => ?_⟩, fun c h => absurd h (n47 c), ?_⟩
  · rw [g0 g hg]
    refine ⟨by omega, fun i hi => ?_, by omega, fun k hk => ?_⟩
    · rw [h61] at hi
      have : (4 : Int).toNat = 4 := rfl
      have : i = 0 ∨ i = 1 ∨ i = 2 ∨ i = 3 := by omega
      rcases this with rfl | rfl | rfl | rfl
      · show 97 ≤ S 62 0 ∧ S 62 0 ≤ 122; omega
      · show 97 ≤ S 62 1 ∧ S 62 1 ≤ 122; omega
      · show 97 ≤ S 62 2 ∧ S 62 2 ≤ 122; omega
      · show 97 ≤ S 62 3 ∧ S 62 3 ≤ 122; omega
    · rw [h63] at hk
      have : (2 : Int).toNat = 2 := rfl
      have : k = 0 ∨ k = 1 := by omega
      rcases this with rfl | rfl
      · show 0 ≤ S 64 0 ∧ S 64 0 < 36; omega
      · show 0 ≤ S 64 1 ∧ S 64 1 < 36; omega
  · rw [g0 g hg] at hk ⊢
    rw [h63] at hk
    have : (2 : Int).toNat = 2 := rfl
    rw [c38, c39]
    have : k = 0 ∨ k = 1 := by omega
    rcases this with rfl | rfl
    · show S 64 0 < 3 * 2; omega
    · show S 64 1 < 3 * 2; omega
  · have := g0 g' hg'
    omega
  · unfold Gap
    rw [h65, h65, h65, c46, c47]
    rfl
theorem mc_init {Z : ZT} {d : Nat} {Q : TR → GH → Prop} {G : GH} {t : Nat} (hK : gK G t = 5) (hn : gn G = t + 1) (hz : Fz G) (h0 : ∀ f, fI G f t = 0) (q : ∀ G' S X, gn G' = t + 25 → gs G' ≤ gs G + 100000 → Fz G' → (∀ a, a < t → SmA G G' a) → MOK G' t → StartS S → StartX X → Q (.inl none) (pM G' t S X)) : TC Z (d + 1) mi_X5_init [tR (some t)] G Q := by
  have I0 : IS G G t 0 (fun _ => 0) (fun _ _ => 0) := ⟨hn, by omega, hK, fun q hq => by simp at hq, h0, fun k i hk => (hz (t + k) (by omega)).2.2 i |>.1, hz, fun a _ => SmA.rf, rfl⟩
  have fin : ∀ (Gf : GH) (V : Nat → Int) (W : Nat → Nat → Int), IS G Gf t 24 V W → (V 38 = 3 ∧ V 39 = 2 ∧ V 40 = 2 ∧ V 41 = 0 ∧ V 42 = 1 ∧ V 43 = 0 ∧ V 44 = 0 ∧ V 45 = 1 ∧ V 46 = 0 ∧ V 47 = 0 ∧ V 55 = 0 ∧ V 60 = 1) → (W 14 0 = 4 ∧ (W 15 0 = 100 ∧ W 15 1 = 101 ∧ W 15 2 = 115 ∧ W 15 3 = 107) ∧ W 16 0 = 2 ∧ (W 17 0 = 4 ∧ W 17 1 = 5) ∧ (∀ i, W 18 i = 0) ∧ ∀ i, W 20 i = 0) → (V 31 = 0 ∧ V 33 = 0 ∧ V 34 = 0 ∧ V 35 = -1 ∧ V 37 = 0 ∧ V 67 = 0 ∧ V 68 = 0) → Q (.inl none) Gf := by
    intro Gf V W h hV hW hX
    obtain ⟨h1, h2, h3, h4, h5, h6, h7, h8, h9⟩ := h
    have e0 : ∀ c, rdS Gf t 0 c = V c := fun c => (if_pos rfl).trans (h5 c)
    have eA : ∀ (f k : Nat) (c : Nat), f ≠ 0 → 0 < k → mAL.findIdx (fun x => x == f) = k → rdS Gf t f c = W k c := fun f k c hf hk he => by
      unfold rdS
      rw [if_neg hf, he]
      exact h6 k c hk
    have := q Gf (rdS Gf t) (rdS Gf t) (by omega) (by omega) h7 h8 ⟨h3, fun q hq => h4 q hq⟩ ⟨?_, ?_, ?_, ?_, ?_, fun i => ?_⟩ ⟨?_, fun i => ?_⟩
    · rw [pM_rd] at this; exact this
    · simp only [e0]; exact hV
    · rw [eA 61 14 _ (by decide) (by decide) (by decide +kernel)]; exact hW.1
    · rw [eA 62 15 _ (by decide) (by decide) (by decide +kernel), eA 62 15 _ (by decide) (by decide) (by decide +kernel), eA 62 15 _ (by decide) (by decide) (by decide +kernel), eA 62 15 _ (by decide) (by decide) (by decide +kernel)]; exact hW.2.1
    · rw [eA 63 16 _ (by decide) (by decide) (by decide +kernel)]; exact hW.2.2.1
    · rw [eA 64 17 _ (by decide) (by decide) (by decide +kernel), eA 64 17 _ (by decide) (by decide) (by decide +kernel)]; exact hW.2.2.2.1
    · rw [eA 65 18 _ (by decide) (by decide) (by decide +kernel)]; exact hW.2.2.2.2.1 i
    · simp only [e0]; exact hX
    · rw [eA 69 20 _ (by decide) (by decide) (by decide +kernel)]; exact hW.2.2.2.2.2 i
  have m61 : (61, 14, 100, 4) ∈ MAR.take 24 := by decide +kernel
  have m62 : (62, 15, 100, 24) ∈ MAR.take 24 := by decide +kernel
  have m63 : (63, 16, 100, 4) ∈ MAR.take 24 := by decide +kernel
  have m64 : (64, 17, 100, 32) ∈ MAR.take 24 := by decide +kernel
  have s231 : ∀ Gx, IS G Gx t 24 (up1 (up1 (up1 (up1 (up1 (up1 (up1 (fun _ => 0) 35 (-1)) 38 3) 39 2) 40 2) 42 1) 45 1) 60 1) (fun _ _ => 0) → TW Z mi_X5_init (d + 1) 231 [some (tR (some t))] [] Gx Q := by
    intro Gx h
    obtain ⟨x1, x2, x3⟩ := h.row m61
    obtain ⟨y1, y2, y3⟩ := h.row m62
    refine r_X5_init_231 ⟨h.2.2.1, fun v1 hv1 => ⟨t + 14, hv1.symm.trans x1, x2, by rw [x3]; decide, fun v5 hv5 => ⟨t + 15, hv5.symm.trans y1, y2, by rw [y3]; decide, fun v9 hv9 => ⟨t + 15, hv9.symm.trans y1, y2, by rw [y3]; decide, ?_⟩⟩⟩⟩
    have h2 := ((h.num (k := 14) (i := Int.toNat 0) (v := 4) (by decide) (by decide)).num (k := 15) (i := Int.toNat 0) (v := 100) (by decide) (by decide)).num (k := 15) (i := Int.toNat 1) (v := 101) (by decide) (by decide)
    generalize setA (setA (setA Gx (t + 14) (Int.toNat 0) 4) (t + 15) (Int.toNat 0) 100) (t + 15) (Int.toNat 1) 101 = Gy at h2 ⊢
    obtain ⟨y1, y2, y3⟩ := h2.row m62
    obtain ⟨z1, z2, z3⟩ := h2.row m63
    refine r_X5_init_254 ⟨h2.2.2.1, fun v1 hv1 => ⟨t + 15, hv1.symm.trans y1, y2, by rw [y3]; decide, fun v5 hv5 => ⟨t + 15, hv5.symm.trans y1, y2, by rw [y3]; decide, fun v9 hv9 => ⟨t + 16, hv9.symm.trans z1, z2, by rw [z3]; decide, ?_⟩⟩⟩⟩
    have h3 := ((h2.num (k := 15) (i := Int.toNat 2) (v := 115) (by decide) (by decide)).num (k := 15) (i := Int.toNat 3) (v := 107) (by decide) (by decide)).num (k := 16) (i := Int.toNat 0) (v := 2) (by decide) (by decide)
    generalize setA (setA (setA Gy (t + 15) (Int.toNat 2) 115) (t + 15) (Int.toNat 3) 107) (t + 16) (Int.toNat 0) 2 = Gw at h3 ⊢
    obtain ⟨w1, w2, w3⟩ := h3.row m64
    refine r_X5_init_277 ⟨h3.2.2.1, fun v1 hv1 => ⟨t + 17, hv1.symm.trans w1, w2, by rw [w3]; decide, fun v5 hv5 => ⟨t + 17, hv5.symm.trans w1, w2, by rw [w3]; decide, ?_⟩⟩⟩
    have h4 := (h3.num (k := 17) (i := Int.toNat 0) (v := 4) (by decide) (by decide)).num (k := 17) (i := Int.toNat 1) (v := 5) (by decide) (by decide)
    refine fin _ _ _ h4 (by decide) ⟨by decide, by decide, by decide, by decide, fun i => ?_, fun i => ?_⟩ (by decide)
    · rw [up2_ne (Or.inl (by decide)), up2_ne (Or.inl (by decide)), up2_ne (Or.inl (by decide)), up2_ne (Or.inl (by decide)), up2_ne (Or.inl (by decide)), up2_ne (Or.inl (by decide)), up2_ne (Or.inl (by decide)), up2_ne (Or.inl (by decide))]
    · rw [up2_ne (Or.inl (by decide)), up2_ne (Or.inl (by decide)), up2_ne (Or.inl (by decide)), up2_ne (Or.inl (by decide)), up2_ne (Or.inl (by decide)), up2_ne (Or.inl (by decide)), up2_ne (Or.inl (by decide)), up2_ne (Or.inl (by decide))]
  have s218 : ∀ Gx, IS G Gx t 23 (up1 (up1 (up1 (up1 (up1 (up1 (fun _ => 0) 35 (-1)) 38 3) 39 2) 40 2) 42 1) 45 1) (fun _ _ => 0) → TW Z mi_X5_init (d + 1) 218 [some (tR (some t))] [] Gx Q := by
    intro Gx h
    have h1 := h.arr (f := 82) (k := 100) (n := 8) (N := 8) rfl (by decide)
    exact r_X5_init_218 t ⟨h1.2.2.1, s231 _ (h1.int 60 1)⟩
  have s202 : ∀ Gx, IS G Gx t 21 (up1 (up1 (up1 (up1 (up1 (up1 (fun _ => 0) 35 (-1)) 38 3) 39 2) 40 2) 42 1) 45 1) (fun _ _ => 0) → TW Z mi_X5_init (d + 1) 202 [some (tR (some t))] [] Gx Q := by
    intro Gx h
    have h1 := h.arr (f := 71) (k := 100) (n := 20) (N := 20) rfl (by decide)
    have h2 := h1.arr (f := 76) (k := 100) (n := 20) (N := 20) rfl (by decide)
    exact r_X5_init_202 t t ⟨h1.2.2.1, h2.2.2.1, s218 _ h2⟩
  have s187 : ∀ Gx, IS G Gx t 19 (up1 (up1 (up1 (up1 (up1 (up1 (fun _ => 0) 35 (-1)) 38 3) 39 2) 40 2) 42 1) 45 1) (fun _ _ => 0) → TW Z mi_X5_init (d + 1) 187 [some (tR (some t))] [] Gx Q := by
    intro Gx h
    have h1 := h.arr (f := 69) (k := 102) (n := 2) (N := 2) rfl (by decide)
    have h2 := h1.arr (f := 70) (k := 100) (n := 20) (N := 20) rfl (by decide)
    exact r_X5_init_187 t t ⟨h1.2.2.1, h2.2.2.1, s202 _ h2⟩
  have s170 : ∀ Gx, IS G Gx t 17 (up1 (up1 (up1 (up1 (up1 (up1 (fun _ => 0) 35 (-1)) 38 3) 39 2) 40 2) 42 1) 45 1) (fun _ _ => 0) → TW Z mi_X5_init (d + 1) 170 [some (tR (some t))] [] Gx Q := by
    intro Gx h
    have h1 := h.arr (f := 65) (k := 100) (n := 13) (N := 13) rfl (by decide)
    have h2 := h1.arr (f := 66) (k := 100) (n := 3840) (N := 3840) rfl (by decide)
    exact r_X5_init_170 t t ⟨h1.2.2.1, h2.2.2.1, s187 _ h2⟩
  have s155 : ∀ Gx, IS G Gx t 15 (up1 (up1 (up1 (up1 (up1 (up1 (fun _ => 0) 35 (-1)) 38 3) 39 2) 40 2) 42 1) 45 1) (fun _ _ => 0) → TW Z mi_X5_init (d + 1) 155 [some (tR (some t))] [] Gx Q := by
    intro Gx h
    have h1 := h.arr (f := 63) (k := 100) (n := 4) (N := 4) rfl (by decide)
    have h2 := h1.arr (f := 64) (k := 100) (n := 32) (N := 32) rfl (by decide)
    exact r_X5_init_155 t t ⟨h1.2.2.1, h2.2.2.1, s170 _ h2⟩
  have s140 : ∀ Gx, IS G Gx t 13 (up1 (up1 (up1 (up1 (up1 (up1 (fun _ => 0) 35 (-1)) 38 3) 39 2) 40 2) 42 1) 45 1) (fun _ _ => 0) → TW Z mi_X5_init (d + 1) 140 [some (tR (some t))] [] Gx Q := by
    intro Gx h
    have h1 := h.arr (f := 61) (k := 100) (n := 4) (N := 4) rfl (by decide)
    have h2 := h1.arr (f := 62) (k := 100) (n := 24) (N := 24) rfl (by decide)
    exact r_X5_init_140 t t ⟨h1.2.2.1, h2.2.2.1, s155 _ h2⟩
  have s124 : ∀ Gx, IS G Gx t 11 (up1 (up1 (up1 (up1 (up1 (up1 (fun _ => 0) 35 (-1)) 38 3) 39 2) 40 2) 42 1) 45 1) (fun _ _ => 0) → TW Z mi_X5_init (d + 1) 124 [some (tR (some t))] [] Gx Q := by
    intro Gx h
    have h1 := h.arr (f := 58) (k := 100) (n := 9) (N := 9) rfl (by decide)
    have h2 := h1.arr (f := 59) (k := 100) (n := 9) (N := 9) rfl (by decide)
    exact r_X5_init_124 t t ⟨h1.2.2.1, h2.2.2.1, s140 _ h2⟩
  have s108 : ∀ Gx, IS G Gx t 9 (up1 (up1 (up1 (up1 (up1 (up1 (fun _ => 0) 35 (-1)) 38 3) 39 2) 40 2) 42 1) 45 1) (fun _ _ => 0) → TW Z mi_X5_init (d + 1) 108 [some (tR (some t))] [] Gx Q := by
    intro Gx h
    have h1 := h.arr (f := 56) (k := 100) (n := 9) (N := 9) rfl (by decide)
    have h2 := h1.arr (f := 57) (k := 100) (n := 9) (N := 9) rfl (by decide)
    exact r_X5_init_108 t t ⟨h1.2.2.1, h2.2.2.1, s124 _ h2⟩
  have s92 : ∀ Gx, IS G Gx t 7 (up1 (up1 (up1 (up1 (up1 (up1 (fun _ => 0) 35 (-1)) 38 3) 39 2) 40 2) 42 1) 45 1) (fun _ _ => 0) → TW Z mi_X5_init (d + 1) 92 [some (tR (some t))] [] Gx Q := by
    intro Gx h
    have h1 := h.arr (f := 53) (k := 100) (n := 20) (N := 20) rfl (by decide)
    have h2 := h1.arr (f := 54) (k := 100) (n := 20) (N := 20) rfl (by decide)
    exact r_X5_init_92 t t ⟨h1.2.2.1, h2.2.2.1, s108 _ h2⟩
  have s76 : ∀ Gx, IS G Gx t 5 (up1 (up1 (up1 (up1 (up1 (up1 (fun _ => 0) 35 (-1)) 38 3) 39 2) 40 2) 42 1) 45 1) (fun _ _ => 0) → TW Z mi_X5_init (d + 1) 76 [some (tR (some t))] [] Gx Q := by
    intro Gx h
    have h1 := h.arr (f := 51) (k := 100) (n := 20) (N := 20) rfl (by decide)
    have h2 := h1.arr (f := 52) (k := 100) (n := 20) (N := 20) rfl (by decide)
    exact r_X5_init_76 t t ⟨h1.2.2.1, h2.2.2.1, s92 _ h2⟩
  have s60 : ∀ Gx, IS G Gx t 3 (up1 (up1 (up1 (up1 (up1 (up1 (fun _ => 0) 35 (-1)) 38 3) 39 2) 40 2) 42 1) 45 1) (fun _ _ => 0) → TW Z mi_X5_init (d + 1) 60 [some (tR (some t))] [] Gx Q := by
    intro Gx h
    have h1 := h.arr (f := 49) (k := 100) (n := 20) (N := 20) rfl (by decide)
    have h2 := h1.arr (f := 50) (k := 100) (n := 20) (N := 20) rfl (by decide)
    exact r_X5_init_60 t t ⟨h1.2.2.1, h2.2.2.1, s76 _ h2⟩
  have s47 : ∀ Gx, IS G Gx t 2 (up1 (up1 (up1 (up1 (up1 (fun _ => 0) 35 (-1)) 38 3) 39 2) 40 2) 42 1) (fun _ _ => 0) → TW Z mi_X5_init (d + 1) 47 [some (tR (some t))] [] Gx Q := by
    intro Gx h
    have h1 := (h.int 45 1).arr (f := 48) (k := 100) (n := 20) (N := 20) rfl (by decide)
    exact r_X5_init_47 t ⟨h.2.2.1, h1.2.2.1, s60 _ h1⟩
  have s32 : ∀ Gx, IS G Gx t 2 (up1 (up1 (fun _ => 0) 35 (-1)) 38 3) (fun _ _ => 0) → TW Z mi_X5_init (d + 1) 32 [some (tR (some t))] [] Gx Q := by
    intro Gx h
    exact r_X5_init_32 ⟨h.2.2.1, s47 _ (((h.int 39 2).int 40 2).int 42 1)⟩
  have s18 : ∀ Gx, IS G Gx t 1 (up1 (fun _ => 0) 35 (-1)) (fun _ _ => 0) → TW Z mi_X5_init (d + 1) 18 [some (tR (some t))] [] Gx Q := by
    intro Gx h
    have h1 := h.arr (f := 36) (k := 101) (n := 1000) (N := 1000) rfl (by decide)
    exact r_X5_init_18 t ⟨h1.2.2.1, s32 _ (h1.int 38 3)⟩
  have h1 := I0.arr (f := 32) (k := 101) (n := 600) (N := 600) rfl (by decide)
  exact c_X5_init t ⟨h1.2.2.1, s18 _ (h1.int 35 (-1))⟩
