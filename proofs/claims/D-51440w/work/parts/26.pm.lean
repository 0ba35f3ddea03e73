/-! THE MODEL'S CELLS AS VECTORS (printed by tools/mkpm.py): pM G m S X is the heap G, but the model at m holds S (fields 38 to 65: what an image keeps) and X (the rest); first index: 0 for a number, else the array's field -/
abbrev St : Type := Nat → Nat → Int
def mS (f : Nat) : Bool := decide (38 ≤ f ∧ f ≤ 65)
def mAL : List Nat := [0, 32, 36, 48, 49, 50, 51, 52, 53, 54, 56, 57, 58, 59, 61, 62, 63, 64, 65, 66, 69, 70, 71, 76, 82]
def pM (G : GH) (m : Nat) (S X : St) : GH := (G.1, G.2.1, ((fun f a => if a = m then (if mS f = true then S 0 f else X 0 f) else fI G f a), fR G), ((fun a i => if m < a ∧ a ≤ m + 24 then (if mS (mAL.getD (a - m) 0) = true then S (mAL.getD (a - m) 0) i else X (mAL.getD (a - m) 0) i) else aI G a i), aR G))
/-- (field, place behind the model, kind, length) -/
def MAR : List (Nat × Nat × Nat × Nat) := [(32, 1, 101, 600), (36, 2, 101, 1000), (48, 3, 100, 20), (49, 4, 100, 20), (50, 5, 100, 20), (51, 6, 100, 20), (52, 7, 100, 20), (53, 8, 100, 20), (54, 9, 100, 20), (56, 10, 100, 9), (57, 11, 100, 9), (58, 12, 100, 9), (59, 13, 100, 9), (61, 14, 100, 4), (62, 15, 100, 24), (63, 16, 100, 4), (64, 17, 100, 32), (65, 18, 100, 13), (66, 19, 100, 3840), (69, 20, 102, 2), (70, 21, 100, 20), (71, 22, 100, 20), (76, 23, 100, 20), (82, 24, 100, 8)]
def MOK (G : GH) (m : Nat) : Prop := gK G m = 5 ∧ ∀ q ∈ MAR, fR G q.1 m = some (m + q.2.1) ∧ gK G (m + q.2.1) = q.2.2.1 ∧ gL G (m + q.2.1) = q.2.2.2
theorem TW.hp {Z : ZT} {mi : MI} {d pc : Nat} {lv : List (Option Value)} {st : List Value} {G G1 : GH} {Q : TR → GH → Prop} (h : G1 = G) (k : TW Z mi d pc lv st G Q) : TW Z mi d pc lv st G1 Q := by subst h; exact k
theorem ka_of {k t : Nat} (h : k = 100 + t) : KA k t := Or.inl h
section TPM
variable {G : GH} {m f i k : Nat} {v : Int} {S X : St}
theorem pm_S (h : mS f = true) : fI (pM G m S X) f m = S 0 f := by show (if m = m then _ else _) = _; rw [if_pos rfl, if_pos h]
theorem pm_X (h : mS f = false) : fI (pM G m S X) f m = X 0 f := by show (if m = m then _ else _) = _; rw [if_pos rfl, if_neg (by rw [h]; decide)]
theorem gh_ext {A B : GH} (h1 : A.1 = B.1) (h2 : A.2.1 = B.2.1) (h3 : fI A = fI B) (h4 : fR A = fR B) (h5 : aI A = aI B) (h6 : aR A = aR B) : A = B := by
  obtain ⟨a1, a2, ⟨a3, a4⟩, ⟨a5, a6⟩⟩ := A
  obtain ⟨b1, b2, ⟨b3, b4⟩, ⟨b5, b6⟩⟩ := B
  simp only [fI, fR, aI, aR] at h1 h2 h3 h4 h5 h6
  subst h1 h2 h3 h4 h5 h6
  rfl
theorem sm_S (h : mS f = true) : setI (pM G m S X) f m v = pM G m (up2 S 0 f v) X := by
  refine gh_ext rfl rfl ?_ rfl ?_ rfl
  · funext f' a'
    show (if f' = f ∧ a' = m then v else if a' = m then _ else _) = if a' = m then (if _ then (if 0 = 0 ∧ f' = f then v else _) else _) else _
    by_cases h1 : a' = m
    · by_cases h2 : f' = f
      · rw [if_pos ⟨h2, h1⟩, if_pos h1, if_pos (by rw [h2]; exact h), if_pos ⟨rfl, h2⟩]
      · rw [if_neg (fun q => h2 q.1), if_pos h1, if_pos h1, if_neg (c := 0 = 0 ∧ f' = f) (fun q => h2 q.2)]
    · rw [if_neg (fun q => h1 q.2), if_neg h1, if_neg h1]
  · funext a' j
    have h0 : ∀ f', mS f' = true → up2 S 0 f v f' j = S f' j := fun f' hf' => up2_ne (Or.inl (by intro e; subst e; cases hf'))
    show (if _ then (if _ then _ else _) else _) = if _ then (if _ then _ else _) else _
    by_cases h1 : m < a' ∧ a' ≤ m + 24
    · rw [if_pos h1, if_pos h1]
      by_cases h2 : mS (mAL.getD (a' - m) 0) = true
      · rw [if_pos h2, if_pos h2, h0 _ h2]
      · rw [if_neg h2, if_neg h2]
    · rw [if_neg h1, if_neg h1]
theorem mAL_pos {j : Nat} (h0 : 0 < j) (h : j ≤ 24) : mAL.getD j 0 ≠ 0 := by
  have : ∀ j : Fin 25, (j : Nat) ≠ 0 → mAL.getD j 0 ≠ 0 := by decide
  exact this ⟨j, by omega⟩ (by show j ≠ 0; omega)
theorem sm_X (h : mS f = false) : setI (pM G m S X) f m v = pM G m S (up2 X 0 f v) := by
  refine gh_ext rfl rfl ?_ rfl ?_ rfl
  · funext f' a'
    show (if f' = f ∧ a' = m then v else if a' = m then _ else _) = if a' = m then (if _ then _ else (if 0 = 0 ∧ f' = f then v else _)) else _
    by_cases h1 : a' = m
    · by_cases h2 : f' = f
      · rw [if_pos ⟨h2, h1⟩, if_pos h1, if_neg (by rw [h2, h]; decide), if_pos ⟨rfl, h2⟩]
      · rw [if_neg (fun q => h2 q.1), if_pos h1, if_pos h1, if_neg (c := 0 = 0 ∧ f' = f) (fun q => h2 q.2)]
    · rw [if_neg (fun q => h1 q.2), if_neg h1, if_neg h1]
  · funext a' j
    show (if _ then (if _ then _ else _) else _) = if _ then (if _ then _ else _) else _
    by_cases h1 : m < a' ∧ a' ≤ m + 24
    · rw [if_pos h1, if_pos h1]
      by_cases h2 : mS (mAL.getD (a' - m) 0) = true
      · rw [if_pos h2, if_pos h2]
      · rw [if_neg h2, if_neg h2]
        exact (up2_ne (Or.inl (mAL_pos (by omega) (by omega)))).symm
    · rw [if_neg h1, if_neg h1]
theorem pa_S (h0 : 0 < k) (h1 : k ≤ 24) (h : mAL.getD k 0 = f) (hf : mS f = true) : aI (pM G m S X) (m + k) i = S f i := by
  show (if m < m + k ∧ m + k ≤ m + 24 then (if mS (mAL.getD (m + k - m) 0) = true then _ else _) else _) = _
  rw [if_pos ⟨by omega, by omega⟩, Nat.add_sub_cancel_left, h, if_pos hf]
theorem pa_X (h0 : 0 < k) (h1 : k ≤ 24) (h : mAL.getD k 0 = f) (hf : mS f = false) : aI (pM G m S X) (m + k) i = X f i := by
  show (if m < m + k ∧ m + k ≤ m + 24 then (if mS (mAL.getD (m + k - m) 0) = true then _ else _) else _) = _
  rw [if_pos ⟨by omega, by omega⟩, Nat.add_sub_cancel_left, h, if_neg (by rw [hf]; decide)]
theorem mAL_inj {j k : Nat} (hj : 0 < j) (hj2 : j ≤ 24) (hk : 0 < k) (hk2 : k ≤ 24) (h : mAL.getD j 0 = mAL.getD k 0) : j = k := by
  have : ∀ j k : Fin 25, (j : Nat) ≠ 0 → (k : Nat) ≠ 0 → mAL.getD j 0 = mAL.getD k 0 → j = k := by decide
  exact Fin.mk.inj (this ⟨j, by omega⟩ ⟨k, by omega⟩ (by show j ≠ 0; omega) (by show k ≠ 0; omega) h)
theorem sa_S (h0 : 0 < k) (h1 : k ≤ 24) (h : mAL.getD k 0 = f) (hf : mS f = true) : setA (pM G m S X) (m + k) i v = pM G m (up2 S f i v) X := by
  refine gh_ext rfl rfl ?_ rfl ?_ rfl
  · funext f' a'
    show (if _ then (if _ then _ else _) else _) = if _ then (if _ then _ else _) else _
    have : up2 S f i v 0 f' = S 0 f' := up2_ne (Or.inl (by intro e; subst e; cases hf))
    rw [this]
  · funext a' j
    show (if a' = m + k ∧ j = i then v else if m < a' ∧ a' ≤ m + 24 then (if _ then _ else _) else _) = if m < a' ∧ a' ≤ m + 24 then (if _ then (if _ ∧ j = i then v else _) else _) else _
    by_cases ha : m < a' ∧ a' ≤ m + 24
    · rw [if_pos ha, if_pos ha]
      by_cases hk : a' = m + k
      · have e : mAL.getD (a' - m) 0 = f := by rw [hk, Nat.add_sub_cancel_left]; exact h
        rw [e, if_pos hf, if_pos hf]
        by_cases hj : j = i
        · rw [if_pos ⟨hk, hj⟩, if_pos ⟨rfl, hj⟩]
        · rw [if_neg (fun q => hj q.2), if_neg (fun q => hj q.2)]
      · rw [if_neg (fun q => hk q.1)]
        have e : mAL.getD (a' - m) 0 ≠ f := fun e => hk (by have := mAL_inj (by omega) (by omega) h0 h1 (e.trans h.symm); omega)
        rw [if_neg (c := mAL.getD (a' - m) 0 = f ∧ j = i) (fun q => e q.1)]
    · rw [if_neg ha, if_neg ha, if_neg (fun q => ha ⟨by omega, by omega⟩)]
theorem sa_X (h0 : 0 < k) (h1 : k ≤ 24) (h : mAL.getD k 0 = f) (hf : mS f = false) : setA (pM G m S X) (m + k) i v = pM G m S (up2 X f i v) := by
  refine gh_ext rfl rfl ?_ rfl ?_ rfl
  · funext f' a'
    show (if _ then (if _ then _ else _) else _) = if _ then (if _ then _ else _) else _
    have : up2 X f i v 0 f' = X 0 f' := up2_ne (Or.inl (fun e => mAL_pos h0 h1 (h.trans e.symm)))
    rw [this]
  · funext a' j
    show (if a' = m + k ∧ j = i then v else if m < a' ∧ a' ≤ m + 24 then (if _ then _ else _) else _) = if m < a' ∧ a' ≤ m + 24 then (if _ then _ else (if _ ∧ j = i then v else _)) else _
    by_cases ha : m < a' ∧ a' ≤ m + 24
    · rw [if_pos ha, if_pos ha]
      by_cases hk : a' = m + k
      · have e : mAL.getD (a' - m) 0 = f := by rw [hk, Nat.add_sub_cancel_left]; exact h
        have hf' : ¬ mS f = true := by rw [hf]; decide
        rw [e, if_neg hf', if_neg hf']
        by_cases hj : j = i
        · rw [if_pos ⟨hk, hj⟩, if_pos ⟨rfl, hj⟩]
        · rw [if_neg (fun q => hj q.2), if_neg (fun q => hj q.2)]
      · rw [if_neg (fun q => hk q.1)]
        have e : mAL.getD (a' - m) 0 ≠ f := fun e => hk (by have := mAL_inj (by omega) (by omega) h0 h1 (e.trans h.symm); omega)
        rw [if_neg (c := mAL.getD (a' - m) 0 = f ∧ j = i) (fun q => e q.1)]
    · rw [if_neg ha, if_neg ha, if_neg (fun q => ha ⟨by omega, by omega⟩)]
theorem mr_32 (h : MOK G m) : fR G 32 m = some (m + 1) := (h.2 (32, 1, 101, 600) (List.mem_of_getElem? (i := 0) rfl)).1
theorem mk_32 (h : MOK G m) : gK G (m + 1) = 101 := (h.2 (32, 1, 101, 600) (List.mem_of_getElem? (i := 0) rfl)).2.1
theorem ml_32 (h : MOK G m) : gL G (m + 1) = 600 := (h.2 (32, 1, 101, 600) (List.mem_of_getElem? (i := 0) rfl)).2.2
theorem pa_32 : aI (pM G m S X) (m + 1) i = X 32 i := pa_X (by decide) (by decide) rfl rfl
theorem sa_32 : setA (pM G m S X) (m + 1) i v = pM G m S (up2 X 32 i v) := sa_X (by decide) (by decide) rfl rfl
theorem mr_36 (h : MOK G m) : fR G 36 m = some (m + 2) := (h.2 (36, 2, 101, 1000) (List.mem_of_getElem? (i := 1) rfl)).1
theorem mk_36 (h : MOK G m) : gK G (m + 2) = 101 := (h.2 (36, 2, 101, 1000) (List.mem_of_getElem? (i := 1) rfl)).2.1
theorem ml_36 (h : MOK G m) : gL G (m + 2) = 1000 := (h.2 (36, 2, 101, 1000) (List.mem_of_getElem? (i := 1) rfl)).2.2
theorem pa_36 : aI (pM G m S X) (m + 2) i = X 36 i := pa_X (by decide) (by decide) rfl rfl
theorem sa_36 : setA (pM G m S X) (m + 2) i v = pM G m S (up2 X 36 i v) := sa_X (by decide) (by decide) rfl rfl
theorem mr_48 (h : MOK G m) : fR G 48 m = some (m + 3) := (h.2 (48, 3, 100, 20) (List.mem_of_getElem? (i := 2) rfl)).1
theorem mk_48 (h : MOK G m) : gK G (m + 3) = 100 := (h.2 (48, 3, 100, 20) (List.mem_of_getElem? (i := 2) rfl)).2.1
theorem ml_48 (h : MOK G m) : gL G (m + 3) = 20 := (h.2 (48, 3, 100, 20) (List.mem_of_getElem? (i := 2) rfl)).2.2
theorem pa_48 : aI (pM G m S X) (m + 3) i = S 48 i := pa_S (by decide) (by decide) rfl rfl
theorem sa_48 : setA (pM G m S X) (m + 3) i v = pM G m (up2 S 48 i v) X := sa_S (by decide) (by decide) rfl rfl
theorem mr_49 (h : MOK G m) : fR G 49 m = some (m + 4) := (h.2 (49, 4, 100, 20) (List.mem_of_getElem? (i := 3) rfl)).1
theorem mk_49 (h : MOK G m) : gK G (m + 4) = 100 := (h.2 (49, 4, 100, 20) (List.mem_of_getElem? (i := 3) rfl)).2.1
theorem ml_49 (h : MOK G m) : gL G (m + 4) = 20 := (h.2 (49, 4, 100, 20) (List.mem_of_getElem? (i := 3) rfl)).2.2
theorem pa_49 : aI (pM G m S X) (m + 4) i = S 49 i := pa_S (by decide) (by decide) rfl rfl
theorem sa_49 : setA (pM G m S X) (m + 4) i v = pM G m (up2 S 49 i v) X := sa_S (by decide) (by decide) rfl rfl
theorem mr_50 (h : MOK G m) : fR G 50 m = some (m + 5) := (h.2 (50, 5, 100, 20) (List.mem_of_getElem? (i := 4) rfl)).1
theorem mk_50 (h : MOK G m) : gK G (m + 5) = 100 := (h.2 (50, 5, 100, 20) (List.mem_of_getElem? (i := 4) rfl)).2.1
theorem ml_50 (h : MOK G m) : gL G (m + 5) = 20 := (h.2 (50, 5, 100, 20) (List.mem_of_getElem? (i := 4) rfl)).2.2
theorem pa_50 : aI (pM G m S X) (m + 5) i = S 50 i := pa_S (by decide) (by decide) rfl rfl
theorem sa_50 : setA (pM G m S X) (m + 5) i v = pM G m (up2 S 50 i v) X := sa_S (by decide) (by decide) rfl rfl
theorem mr_51 (h : MOK G m) : fR G 51 m = some (m + 6) := (h.2 (51, 6, 100, 20) (List.mem_of_getElem? (i := 5) rfl)).1
theorem mk_51 (h : MOK G m) : gK G (m + 6) = 100 := (h.2 (51, 6, 100, 20) (List.mem_of_getElem? (i := 5) rfl)).2.1
theorem ml_51 (h : MOK G m) : gL G (m + 6) = 20 := (h.2 (51, 6, 100, 20) (List.mem_of_getElem? (i := 5) rfl)).2.2
theorem pa_51 : aI (pM G m S X) (m + 6) i = S 51 i := pa_S (by decide) (by decide) rfl rfl
theorem sa_51 : setA (pM G m S X) (m + 6) i v = pM G m (up2 S 51 i v) X := sa_S (by decide) (by decide) rfl rfl
theorem mr_52 (h : MOK G m) : fR G 52 m = some (m + 7) := (h.2 (52, 7, 100, 20) (List.mem_of_getElem? (i := 6) rfl)).1
theorem mk_52 (h : MOK G m) : gK G (m + 7) = 100 := (h.2 (52, 7, 100, 20) (List.mem_of_getElem? (i := 6) rfl)).2.1
theorem ml_52 (h : MOK G m) : gL G (m + 7) = 20 := (h.2 (52, 7, 100, 20) (List.mem_of_getElem? (i := 6) rfl)).2.2
theorem pa_52 : aI (pM G m S X) (m + 7) i = S 52 i := pa_S (by decide) (by decide) rfl rfl
theorem sa_52 : setA (pM G m S X) (m + 7) i v = pM G m (up2 S 52 i v) X := sa_S (by decide) (by decide) rfl rfl
theorem mr_53 (h : MOK G m) : fR G 53 m = some (m + 8) := (h.2 (53, 8, 100, 20) (List.mem_of_getElem? (i := 7) rfl)).1
theorem mk_53 (h : MOK G m) : gK G (m + 8) = 100 := (h.2 (53, 8, 100, 20) (List.mem_of_getElem? (i := 7) rfl)).2.1
theorem ml_53 (h : MOK G m) : gL G (m + 8) = 20 := (h.2 (53, 8, 100, 20) (List.mem_of_getElem? (i := 7) rfl)).2.2
theorem pa_53 : aI (pM G m S X) (m + 8) i = S 53 i := pa_S (by decide) (by decide) rfl rfl
theorem sa_53 : setA (pM G m S X) (m + 8) i v = pM G m (up2 S 53 i v) X := sa_S (by decide) (by decide) rfl rfl
theorem mr_54 (h : MOK G m) : fR G 54 m = some (m + 9) := (h.2 (54, 9, 100, 20) (List.mem_of_getElem? (i := 8) rfl)).1
theorem mk_54 (h : MOK G m) : gK G (m + 9) = 100 := (h.2 (54, 9, 100, 20) (List.mem_of_getElem? (i := 8) rfl)).2.1
theorem ml_54 (h : MOK G m) : gL G (m + 9) = 20 := (h.2 (54, 9, 100, 20) (List.mem_of_getElem? (i := 8) rfl)).2.2
theorem pa_54 : aI (pM G m S X) (m + 9) i = S 54 i := pa_S (by decide) (by decide) rfl rfl
theorem sa_54 : setA (pM G m S X) (m + 9) i v = pM G m (up2 S 54 i v) X := sa_S (by decide) (by decide) rfl rfl
theorem mr_56 (h : MOK G m) : fR G 56 m = some (m + 10) := (h.2 (56, 10, 100, 9) (List.mem_of_getElem? (i := 9) rfl)).1
theorem mk_56 (h : MOK G m) : gK G (m + 10) = 100 := (h.2 (56, 10, 100, 9) (List.mem_of_getElem? (i := 9) rfl)).2.1
theorem ml_56 (h : MOK G m) : gL G (m + 10) = 9 := (h.2 (56, 10, 100, 9) (List.mem_of_getElem? (i := 9) rfl)).2.2
theorem pa_56 : aI (pM G m S X) (m + 10) i = S 56 i := pa_S (by decide) (by decide) rfl rfl
theorem sa_56 : setA (pM G m S X) (m + 10) i v = pM G m (up2 S 56 i v) X := sa_S (by decide) (by decide) rfl rfl
theorem mr_57 (h : MOK G m) : fR G 57 m = some (m + 11) := (h.2 (57, 11, 100, 9) (List.mem_of_getElem? (i := 10) rfl)).1
theorem mk_57 (h : MOK G m) : gK G (m + 11) = 100 := (h.2 (57, 11, 100, 9) (List.mem_of_getElem? (i := 10) rfl)).2.1
theorem ml_57 (h : MOK G m) : gL G (m + 11) = 9 := (h.2 (57, 11, 100, 9) (List.mem_of_getElem? (i := 10) rfl)).2.2
theorem pa_57 : aI (pM G m S X) (m + 11) i = S 57 i := pa_S (by decide) (by decide) rfl rfl
theorem sa_57 : setA (pM G m S X) (m + 11) i v = pM G m (up2 S 57 i v) X := sa_S (by decide) (by decide) rfl rfl
theorem mr_58 (h : MOK G m) : fR G 58 m = some (m + 12) := (h.2 (58, 12, 100, 9) (List.mem_of_getElem? (i := 11) rfl)).1
theorem mk_58 (h : MOK G m) : gK G (m + 12) = 100 := (h.2 (58, 12, 100, 9) (List.mem_of_getElem? (i := 11) rfl)).2.1
theorem ml_58 (h : MOK G m) : gL G (m + 12) = 9 := (h.2 (58, 12, 100, 9) (List.mem_of_getElem? (i := 11) rfl)).2.2
theorem pa_58 : aI (pM G m S X) (m + 12) i = S 58 i := pa_S (by decide) (by decide) rfl rfl
theorem sa_58 : setA (pM G m S X) (m + 12) i v = pM G m (up2 S 58 i v) X := sa_S (by decide) (by decide) rfl rfl
theorem mr_59 (h : MOK G m) : fR G 59 m = some (m + 13) := (h.2 (59, 13, 100, 9) (List.mem_of_getElem? (i := 12) rfl)).1
theorem mk_59 (h : MOK G m) : gK G (m + 13) = 100 := (h.2 (59, 13, 100, 9) (List.mem_of_getElem? (i := 12) rfl)).2.1
theorem ml_59 (h : MOK G m) : gL G (m + 13) = 9 := (h.2 (59, 13, 100, 9) (List.mem_of_getElem? (i := 12) rfl)).2.2
theorem pa_59 : aI (pM G m S X) (m + 13) i = S 59 i := pa_S (by decide) (by decide) rfl rfl
theorem sa_59 : setA (pM G m S X) (m + 13) i v = pM G m (up2 S 59 i v) X := sa_S (by decide) (by decide) rfl rfl
theorem mr_61 (h : MOK G m) : fR G 61 m = some (m + 14) := (h.2 (61, 14, 100, 4) (List.mem_of_getElem? (i := 13) rfl)).1
theorem mk_61 (h : MOK G m) : gK G (m + 14) = 100 := (h.2 (61, 14, 100, 4) (List.mem_of_getElem? (i := 13) rfl)).2.1
theorem ml_61 (h : MOK G m) : gL G (m + 14) = 4 := (h.2 (61, 14, 100, 4) (List.mem_of_getElem? (i := 13) rfl)).2.2
theorem pa_61 : aI (pM G m S X) (m + 14) i = S 61 i := pa_S (by decide) (by decide) rfl rfl
theorem sa_61 : setA (pM G m S X) (m + 14) i v = pM G m (up2 S 61 i v) X := sa_S (by decide) (by decide) rfl rfl
theorem mr_62 (h : MOK G m) : fR G 62 m = some (m + 15) := (h.2 (62, 15, 100, 24) (List.mem_of_getElem? (i := 14) rfl)).1
theorem mk_62 (h : MOK G m) : gK G (m + 15) = 100 := (h.2 (62, 15, 100, 24) (List.mem_of_getElem? (i := 14) rfl)).2.1
theorem ml_62 (h : MOK G m) : gL G (m + 15) = 24 := (h.2 (62, 15, 100, 24) (List.mem_of_getElem? (i := 14) rfl)).2.2
theorem pa_62 : aI (pM G m S X) (m + 15) i = S 62 i := pa_S (by decide) (by decide) rfl rfl
theorem sa_62 : setA (pM G m S X) (m + 15) i v = pM G m (up2 S 62 i v) X := sa_S (by decide) (by decide) rfl rfl
theorem mr_63 (h : MOK G m) : fR G 63 m = some (m + 16) := (h.2 (63, 16, 100, 4) (List.mem_of_getElem? (i := 15) rfl)).1
theorem mk_63 (h : MOK G m) : gK G (m + 16) = 100 := (h.2 (63, 16, 100, 4) (List.mem_of_getElem? (i := 15) rfl)).2.1
theorem ml_63 (h : MOK G m) : gL G (m + 16) = 4 := (h.2 (63, 16, 100, 4) (List.mem_of_getElem? (i := 15) rfl)).2.2
theorem pa_63 : aI (pM G m S X) (m + 16) i = S 63 i := pa_S (by decide) (by decide) rfl rfl
theorem sa_63 : setA (pM G m S X) (m + 16) i v = pM G m (up2 S 63 i v) X := sa_S (by decide) (by decide) rfl rfl
theorem mr_64 (h : MOK G m) : fR G 64 m = some (m + 17) := (h.2 (64, 17, 100, 32) (List.mem_of_getElem? (i := 16) rfl)).1
theorem mk_64 (h : MOK G m) : gK G (m + 17) = 100 := (h.2 (64, 17, 100, 32) (List.mem_of_getElem? (i := 16) rfl)).2.1
theorem ml_64 (h : MOK G m) : gL G (m + 17) = 32 := (h.2 (64, 17, 100, 32) (List.mem_of_getElem? (i := 16) rfl)).2.2
theorem pa_64 : aI (pM G m S X) (m + 17) i = S 64 i := pa_S (by decide) (by decide) rfl rfl
theorem sa_64 : setA (pM G m S X) (m + 17) i v = pM G m (up2 S 64 i v) X := sa_S (by decide) (by decide) rfl rfl
theorem mr_65 (h : MOK G m) : fR G 65 m = some (m + 18) := (h.2 (65, 18, 100, 13) (List.mem_of_getElem? (i := 17) rfl)).1
theorem mk_65 (h : MOK G m) : gK G (m + 18) = 100 := (h.2 (65, 18, 100, 13) (List.mem_of_getElem? (i := 17) rfl)).2.1
theorem ml_65 (h : MOK G m) : gL G (m + 18) = 13 := (h.2 (65, 18, 100, 13) (List.mem_of_getElem? (i := 17) rfl)).2.2
theorem pa_65 : aI (pM G m S X) (m + 18) i = S 65 i := pa_S (by decide) (by decide) rfl rfl
theorem sa_65 : setA (pM G m S X) (m + 18) i v = pM G m (up2 S 65 i v) X := sa_S (by decide) (by decide) rfl rfl
theorem mr_66 (h : MOK G m) : fR G 66 m = some (m + 19) := (h.2 (66, 19, 100, 3840) (List.mem_of_getElem? (i := 18) rfl)).1
theorem mk_66 (h : MOK G m) : gK G (m + 19) = 100 := (h.2 (66, 19, 100, 3840) (List.mem_of_getElem? (i := 18) rfl)).2.1
theorem ml_66 (h : MOK G m) : gL G (m + 19) = 3840 := (h.2 (66, 19, 100, 3840) (List.mem_of_getElem? (i := 18) rfl)).2.2
theorem pa_66 : aI (pM G m S X) (m + 19) i = X 66 i := pa_X (by decide) (by decide) rfl rfl
theorem sa_66 : setA (pM G m S X) (m + 19) i v = pM G m S (up2 X 66 i v) := sa_X (by decide) (by decide) rfl rfl
theorem mr_69 (h : MOK G m) : fR G 69 m = some (m + 20) := (h.2 (69, 20, 102, 2) (List.mem_of_getElem? (i := 19) rfl)).1
theorem mk_69 (h : MOK G m) : gK G (m + 20) = 102 := (h.2 (69, 20, 102, 2) (List.mem_of_getElem? (i := 19) rfl)).2.1
theorem ml_69 (h : MOK G m) : gL G (m + 20) = 2 := (h.2 (69, 20, 102, 2) (List.mem_of_getElem? (i := 19) rfl)).2.2
theorem pa_69 : aI (pM G m S X) (m + 20) i = X 69 i := pa_X (by decide) (by decide) rfl rfl
theorem sa_69 : setA (pM G m S X) (m + 20) i v = pM G m S (up2 X 69 i v) := sa_X (by decide) (by decide) rfl rfl
theorem mr_70 (h : MOK G m) : fR G 70 m = some (m + 21) := (h.2 (70, 21, 100, 20) (List.mem_of_getElem? (i := 20) rfl)).1
theorem mk_70 (h : MOK G m) : gK G (m + 21) = 100 := (h.2 (70, 21, 100, 20) (List.mem_of_getElem? (i := 20) rfl)).2.1
theorem ml_70 (h : MOK G m) : gL G (m + 21) = 20 := (h.2 (70, 21, 100, 20) (List.mem_of_getElem? (i := 20) rfl)).2.2
theorem pa_70 : aI (pM G m S X) (m + 21) i = X 70 i := pa_X (by decide) (by decide) rfl rfl
theorem sa_70 : setA (pM G m S X) (m + 21) i v = pM G m S (up2 X 70 i v) := sa_X (by decide) (by decide) rfl rfl
theorem mr_71 (h : MOK G m) : fR G 71 m = some (m + 22) := (h.2 (71, 22, 100, 20) (List.mem_of_getElem? (i := 21) rfl)).1
theorem mk_71 (h : MOK G m) : gK G (m + 22) = 100 := (h.2 (71, 22, 100, 20) (List.mem_of_getElem? (i := 21) rfl)).2.1
theorem ml_71 (h : MOK G m) : gL G (m + 22) = 20 := (h.2 (71, 22, 100, 20) (List.mem_of_getElem? (i := 21) rfl)).2.2
theorem pa_71 : aI (pM G m S X) (m + 22) i = X 71 i := pa_X (by decide) (by decide) rfl rfl
theorem sa_71 : setA (pM G m S X) (m + 22) i v = pM G m S (up2 X 71 i v) := sa_X (by decide) (by decide) rfl rfl
theorem mr_76 (h : MOK G m) : fR G 76 m = some (m + 23) := (h.2 (76, 23, 100, 20) (List.mem_of_getElem? (i := 22) rfl)).1
theorem mk_76 (h : MOK G m) : gK G (m + 23) = 100 := (h.2 (76, 23, 100, 20) (List.mem_of_getElem? (i := 22) rfl)).2.1
theorem ml_76 (h : MOK G m) : gL G (m + 23) = 20 := (h.2 (76, 23, 100, 20) (List.mem_of_getElem? (i := 22) rfl)).2.2
theorem pa_76 : aI (pM G m S X) (m + 23) i = X 76 i := pa_X (by decide) (by decide) rfl rfl
theorem sa_76 : setA (pM G m S X) (m + 23) i v = pM G m S (up2 X 76 i v) := sa_X (by decide) (by decide) rfl rfl
theorem mr_82 (h : MOK G m) : fR G 82 m = some (m + 24) := (h.2 (82, 24, 100, 8) (List.mem_of_getElem? (i := 23) rfl)).1
theorem mk_82 (h : MOK G m) : gK G (m + 24) = 100 := (h.2 (82, 24, 100, 8) (List.mem_of_getElem? (i := 23) rfl)).2.1
theorem ml_82 (h : MOK G m) : gL G (m + 24) = 8 := (h.2 (82, 24, 100, 8) (List.mem_of_getElem? (i := 23) rfl)).2.2
theorem pa_82 : aI (pM G m S X) (m + 24) i = X 82 i := pa_X (by decide) (by decide) rfl rfl
theorem sa_82 : setA (pM G m S X) (m + 24) i v = pM G m S (up2 X 82 i v) := sa_X (by decide) (by decide) rfl rfl
theorem pm_31 : fI (pM G m S X) 31 m = X 0 31 := pm_X rfl
theorem sm_31 : setI (pM G m S X) 31 m v = pM G m S (up2 X 0 31 v) := sm_X rfl
theorem pm_33 : fI (pM G m S X) 33 m = X 0 33 := pm_X rfl
theorem sm_33 : setI (pM G m S X) 33 m v = pM G m S (up2 X 0 33 v) := sm_X rfl
theorem pm_34 : fI (pM G m S X) 34 m = X 0 34 := pm_X rfl
theorem sm_34 : setI (pM G m S X) 34 m v = pM G m S (up2 X 0 34 v) := sm_X rfl
theorem pm_35 : fI (pM G m S X) 35 m = X 0 35 := pm_X rfl
theorem sm_35 : setI (pM G m S X) 35 m v = pM G m S (up2 X 0 35 v) := sm_X rfl
theorem pm_37 : fI (pM G m S X) 37 m = X 0 37 := pm_X rfl
theorem sm_37 : setI (pM G m S X) 37 m v = pM G m S (up2 X 0 37 v) := sm_X rfl
theorem pm_38 : fI (pM G m S X) 38 m = S 0 38 := pm_S rfl
theorem sm_38 : setI (pM G m S X) 38 m v = pM G m (up2 S 0 38 v) X := sm_S rfl
theorem pm_39 : fI (pM G m S X) 39 m = S 0 39 := pm_S rfl
theorem sm_39 : setI (pM G m S X) 39 m v = pM G m (up2 S 0 39 v) X := sm_S rfl
theorem pm_40 : fI (pM G m S X) 40 m = S 0 40 := pm_S rfl
theorem sm_40 : setI (pM G m S X) 40 m v = pM G m (up2 S 0 40 v) X := sm_S rfl
theorem pm_41 : fI (pM G m S X) 41 m = S 0 41 := pm_S rfl
theorem sm_41 : setI (pM G m S X) 41 m v = pM G m (up2 S 0 41 v) X := sm_S rfl
theorem pm_42 : fI (pM G m S X) 42 m = S 0 42 := pm_S rfl
theorem sm_42 : setI (pM G m S X) 42 m v = pM G m (up2 S 0 42 v) X := sm_S rfl
theorem pm_43 : fI (pM G m S X) 43 m = S 0 43 := pm_S rfl
theorem sm_43 : setI (pM G m S X) 43 m v = pM G m (up2 S 0 43 v) X := sm_S rfl
theorem pm_44 : fI (pM G m S X) 44 m = S 0 44 := pm_S rfl
theorem sm_44 : setI (pM G m S X) 44 m v = pM G m (up2 S 0 44 v) X := sm_S rfl
theorem pm_45 : fI (pM G m S X) 45 m = S 0 45 := pm_S rfl
theorem sm_45 : setI (pM G m S X) 45 m v = pM G m (up2 S 0 45 v) X := sm_S rfl
theorem pm_46 : fI (pM G m S X) 46 m = S 0 46 := pm_S rfl
theorem sm_46 : setI (pM G m S X) 46 m v = pM G m (up2 S 0 46 v) X := sm_S rfl
theorem pm_47 : fI (pM G m S X) 47 m = S 0 47 := pm_S rfl
theorem sm_47 : setI (pM G m S X) 47 m v = pM G m (up2 S 0 47 v) X := sm_S rfl
theorem pm_55 : fI (pM G m S X) 55 m = S 0 55 := pm_S rfl
theorem sm_55 : setI (pM G m S X) 55 m v = pM G m (up2 S 0 55 v) X := sm_S rfl
theorem pm_60 : fI (pM G m S X) 60 m = S 0 60 := pm_S rfl
theorem sm_60 : setI (pM G m S X) 60 m v = pM G m (up2 S 0 60 v) X := sm_S rfl
theorem pm_67 : fI (pM G m S X) 67 m = X 0 67 := pm_X rfl
theorem sm_67 : setI (pM G m S X) 67 m v = pM G m S (up2 X 0 67 v) := sm_X rfl
theorem pm_68 : fI (pM G m S X) 68 m = X 0 68 := pm_X rfl
theorem sm_68 : setI (pM G m S X) 68 m v = pM G m S (up2 X 0 68 v) := sm_X rfl
theorem pm_72 : fI (pM G m S X) 72 m = X 0 72 := pm_X rfl
theorem sm_72 : setI (pM G m S X) 72 m v = pM G m S (up2 X 0 72 v) := sm_X rfl
theorem pm_73 : fI (pM G m S X) 73 m = X 0 73 := pm_X rfl
theorem sm_73 : setI (pM G m S X) 73 m v = pM G m S (up2 X 0 73 v) := sm_X rfl
theorem pm_74 : fI (pM G m S X) 74 m = X 0 74 := pm_X rfl
theorem sm_74 : setI (pM G m S X) 74 m v = pM G m S (up2 X 0 74 v) := sm_X rfl
theorem pm_75 : fI (pM G m S X) 75 m = X 0 75 := pm_X rfl
theorem sm_75 : setI (pM G m S X) 75 m v = pM G m S (up2 X 0 75 v) := sm_X rfl
theorem pm_77 : fI (pM G m S X) 77 m = X 0 77 := pm_X rfl
theorem sm_77 : setI (pM G m S X) 77 m v = pM G m S (up2 X 0 77 v) := sm_X rfl
theorem pm_78 : fI (pM G m S X) 78 m = X 0 78 := pm_X rfl
theorem sm_78 : setI (pM G m S X) 78 m v = pM G m S (up2 X 0 78 v) := sm_X rfl
theorem pm_79 : fI (pM G m S X) 79 m = X 0 79 := pm_X rfl
theorem sm_79 : setI (pM G m S X) 79 m v = pM G m S (up2 X 0 79 v) := sm_X rfl
theorem pm_80 : fI (pM G m S X) 80 m = X 0 80 := pm_X rfl
theorem sm_80 : setI (pM G m S X) 80 m v = pM G m S (up2 X 0 80 v) := sm_X rfl
theorem pm_81 : fI (pM G m S X) 81 m = X 0 81 := pm_X rfl
theorem sm_81 : setI (pM G m S X) 81 m v = pM G m S (up2 X 0 81 v) := sm_X rfl
theorem pm_83 : fI (pM G m S X) 83 m = X 0 83 := pm_X rfl
theorem sm_83 : setI (pM G m S X) 83 m v = pM G m S (up2 X 0 83 v) := sm_X rfl
theorem MOK.pM (h : MOK G m) : MOK (pM G m S X) m := h
theorem pM_pM {S' X' : St} : pM (pM G m S X) m S' X' = pM G m S' X' := by
  refine gh_ext rfl rfl ?_ rfl ?_ rfl
  · funext f' a'
    show (if a' = m then _ else if a' = m then _ else _) = if a' = m then _ else _
    split <;> rfl
  · funext a' j
    show (if _ then _ else if _ then _ else _) = if _ then _ else _
    split <;> rfl
end TPM
