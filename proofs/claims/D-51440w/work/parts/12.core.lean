/-! THE TOY CALCULUS, 1: values, heaps, the world, TW and TC -/
def tI (x : Int) : Value := .int (Int32.ofInt x)
def tL (x : Int) : Value := .long (Int64.ofInt x)
def tR (r : Option Nat) : Value := va_rf r
theorem tR_s (a : Nat) : tR (some a) = .ref a := rfl
theorem tR_n : tR none = .null := rfl
theorem cat_I (x : Int) : (tI x).category = 1 := rfl
theorem cat_R (r : Option Nat) : (tR r).category = 1 := by cases r <;> rfl
theorem cat_L (x : Int) : (tL x).category = 2 := rfl
abbrev GH : Type := (Nat × Nat) × ((Nat → Nat) × (Nat → Nat) × (Nat → Nat)) × ((Nat → Nat → Int) × (Nat → Nat → Option Nat)) × ((Nat → Nat → Int) × (Nat → Nat → Option Nat))
def gn (G : GH) : Nat := G.1.1
def gs (G : GH) : Nat := G.1.2
def gK (G : GH) : Nat → Nat := G.2.1.1
def gL (G : GH) : Nat → Nat := G.2.1.2.1
def gP (G : GH) : Nat → Nat := G.2.1.2.2
def fI (G : GH) : Nat → Nat → Int := G.2.2.1.1
def fR (G : GH) : Nat → Nat → Option Nat := G.2.2.1.2
def aI (G : GH) : Nat → Nat → Int := G.2.2.2.1
def aR (G : GH) : Nat → Nat → Option Nat := G.2.2.2.2
def up2 {α : Type} (F : Nat → Nat → α) (i j : Nat) (v : α) : Nat → Nat → α := fun i' j' => if i' = i ∧ j' = j then v else F i' j'
def up1 {α : Type} (F : Nat → α) (i : Nat) (v : α) : Nat → α := fun i' => if i' = i then v else F i'
def setI (G : GH) (f a : Nat) (v : Int) : GH := (G.1, G.2.1, (up2 (fI G) f a v, fR G), G.2.2.2)
def setR (G : GH) (f a : Nat) (v : Option Nat) : GH := (G.1, G.2.1, (fI G, up2 (fR G) f a v), G.2.2.2)
def setA (G : GH) (a i : Nat) (v : Int) : GH := (G.1, G.2.1, G.2.2.1, (up2 (aI G) a i v, aR G))
def setQ (G : GH) (a i : Nat) (v : Option Nat) : GH := (G.1, G.2.1, G.2.2.1, (aI G, up2 (aR G) a i v))
/-- a new cell: kind, length (0 for an object), ghost region, slots -/
def newG (G : GH) (k n r N : Nat) : GH := ((gn G + 1, gs G + N), (up1 (gK G) (gn G) k, up1 (gL G) (gn G) n, up1 (gP G) (gn G) r), G.2.2)
abbrev TR : Type := Option Value ⊕ Nat
abbrev MI : Type := MethodName × ByteArray × Nat × Option FieldType × List (Nat × Nat × Nat × Nat)
abbrev mN (mi : MI) : MethodName := mi.1
abbrev mC (mi : MI) : ByteArray := mi.2.1
abbrev mL (mi : MI) : Nat := mi.2.2.1
abbrev mR (mi : MI) : Option FieldType := mi.2.2.2.1
abbrev mH (mi : MI) : List (Nat × Nat × Nat × Nat) := mi.2.2.2.2
def mW (mi : MI) : Cond := match mi.2.2.2.2 with
  | [] => Cond.code mi.1 mi.2.1 mi.2.2.1 mi.2.2.2.1
  | h :: t => Cond.codeWith mi.1 mi.2.1 mi.2.2.1 mi.2.2.2.1 (h :: t)
/-- the world: the law's start, the classes' numbers, the fields' slots, the array classes' numbers, the law's argument, the constants' addresses -/
abbrev ZT : Type := State × (Nat → ClassId) × (Nat → Nat → Nat) × (Nat → ClassId) × Addr × (Nat → Nat)
abbrev zS (Z : ZT) : State := Z.1
abbrev zC (Z : ZT) : Nat → ClassId := Z.2.1
abbrev zF (Z : ZT) : Nat → Nat → Nat := Z.2.2.1
abbrev zA (Z : ZT) : Nat → ClassId := Z.2.2.2.1
abbrev zB (Z : ZT) : Addr := Z.2.2.2.2.1
abbrev zE (Z : ZT) : Nat → Nat := Z.2.2.2.2.2
abbrev zz (Z : ZT) : Nat := (zS Z).heap.size
/-- the locals: what is known of them -/
def asc : Nat → List (Option Value) → List (Nat × Value)
  | _, [] => []
  | i, none :: t => asc (i + 1) t
  | i, some v :: t => (i, v) :: asc (i + 1) t
def lvh (ls : Array Slot) (n : Nat) (lv : List (Option Value)) : Prop := lv_has ls n (asc 0 lv)
theorem mem_asc {q : Nat × Value} {lv : List (Option Value)} {b : Nat} : q ∈ asc b lv ↔ ∃ j, lv[j]? = some (some q.2) ∧ q.1 = b + j := by
  induction lv generalizing b with
  | nil => simp [asc]
  | cons o t ih =>
    cases o with
    | none =>
      rw [asc, ih]
      constructor
      · rintro ⟨j, h1, h2⟩
        exact ⟨j + 1, by simpa using h1, by omega⟩
      · rintro ⟨j, h1, h2⟩
        cases j with
        | zero => simp at h1
        | succ j => exact ⟨j, by simpa using h1, by omega⟩
    | some v =>
      rw [asc, List.mem_cons, ih]
      constructor
      · rintro (rfl | ⟨j, h1, h2⟩)
        · exact ⟨0, rfl, rfl⟩
        · exact ⟨j + 1, by simpa using h1, by omega⟩
      · rintro ⟨j, h1, h2⟩
        cases j with
        | zero =>
          left
          obtain ⟨q1, q2⟩ := q
          simp at h1 h2
          rw [h1, h2]
        | succ j => exact Or.inr ⟨j, by simpa using h1, by omega⟩
theorem lvh_get {ls : Array Slot} {n : Nat} {lv : List (Option Value)} (h : lvh ls n lv) {i : Nat} {v : Value} (hv : lv[i]? = some (some v)) : ls[i]? = some (.val v) :=
  h.2.2 (i, v) (mem_asc.mpr ⟨i, hv, by simp⟩)
theorem lvh_sub {ls : Array Slot} {n : Nat} {lv lv' : List (Option Value)} (h : lvh ls n lv) (hs : ∀ (i : Nat) (v : Value), lv'[i]? = some (some v) → lv[i]? = some (some v)) : lvh ls n lv' :=
  ⟨h.1, h.2.1, fun q hq => by
    obtain ⟨j, h1, h2⟩ := mem_asc.mp hq
    exact h.2.2 q (mem_asc.mpr ⟨j, hs _ _ h1, h2⟩)⟩
/-- storing a value of one slot: the result list, and what must hold of the slot below -/
theorem lvh_set1 {lv : List (Option Value)} {i : Nat} {v : Value} (hlow : ∀ w, 0 < i → lv[i - 1]? = some (some w) → w.category = 1) {q : Nat × Value} (hq : q ∈ asc 0 (lv.set i (some v))) :
    q ∈ (i, v) :: (asc 0 lv).filter (fun q => !(q.1 == i) && !(q.1 + 1 == i && q.2.category == 2)) := by
  obtain ⟨j, h1, h2⟩ := mem_asc.mp hq
  have hj : q.1 = j := by omega
  obtain ⟨q1, q2⟩ := q
  simp only at h1 h2 hj
  subst hj
  rw [List.getElem?_set] at h1
  by_cases e : i = q1
  · subst e
    rw [if_pos rfl] at h1
    split at h1
    · cases h1
      exact List.mem_cons_self
    · cases h1
  · rw [if_neg e] at h1
    refine List.mem_cons_of_mem _ (List.mem_filter.mpr ⟨mem_asc.mpr ⟨q1, h1, by simp⟩, ?_⟩)
    have e1 : ¬ q1 = i := fun z => e z.symm
    simp only [Bool.and_eq_true, Bool.not_eq_true', beq_eq_false_iff_ne, ne_eq, Bool.and_eq_false_iff]
    refine ⟨e1, ?_⟩
    by_cases e2 : q1 + 1 = i
    · right
      have h3 := hlow q2 (by omega) (by rw [show i - 1 = q1 by omega]; exact h1)
      rw [h3]
      decide
    · exact Or.inl e2
/-- storing a long or a double -/
theorem lvh_set2 {lv : List (Option Value)} {i : Nat} {v : Value} (hlow : ∀ w, 0 < i → lv[i - 1]? = some (some w) → w.category = 1) {q : Nat × Value} (hq : q ∈ asc 0 ((lv.set i (some v)).set (i + 1) none)) :
    q ∈ (i, v) :: (asc 0 lv).filter (fun q => !(q.1 == i) && (!(q.1 == i + 1) && !(q.1 + 1 == i && q.2.category == 2))) := by
  obtain ⟨j, h1, h2⟩ := mem_asc.mp hq
  have hj : q.1 = j := by omega
  obtain ⟨q1, q2⟩ := q
  simp only at h1 h2 hj
  subst hj
  rw [List.getElem?_set] at h1
  by_cases e0 : i + 1 = q1
  · subst e0
    rw [if_pos rfl] at h1
    split at h1 <;> cases h1
  · rw [if_neg e0, List.getElem?_set] at h1
    by_cases e : i = q1
    · subst e
      rw [if_pos rfl] at h1
      split at h1
      · cases h1
        exact List.mem_cons_self
      · cases h1
    · rw [if_neg e] at h1
      refine List.mem_cons_of_mem _ (List.mem_filter.mpr ⟨mem_asc.mpr ⟨q1, h1, by simp⟩, ?_⟩)
      have e1 : ¬ q1 = i := fun z => e z.symm
      have e3 : ¬ q1 = i + 1 := fun z => e0 z.symm
      simp only [Bool.and_eq_true, Bool.not_eq_true', beq_eq_false_iff_ne, ne_eq, Bool.and_eq_false_iff]
      refine ⟨e1, e3, ?_⟩
      by_cases e2 : q1 + 1 = i
      · right
        have h3 := hlow q2 (by omega) (by rw [show i - 1 = q1 by omega]; exact h1)
        rw [h3]
        decide
      · exact Or.inl e2
theorem lvh_of {ls : Array Slot} {n : Nat} {l : List (Nat × Value)} (h : lv_has ls n l) {lv : List (Option Value)} (hs : ∀ q ∈ asc 0 lv, q ∈ l) : lvh ls n lv := ⟨h.1, h.2.1, fun q hq => h.2.2 q (hs q hq)⟩
