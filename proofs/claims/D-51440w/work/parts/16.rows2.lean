/-! THE TOY CALCULUS, 4: rows that read and write the heap, and make cells (printed by tools/rows2.py) -/
theorem CellOK.congr {Z : ZT} {G G1 : GH} {a : Nat} {H H1 : Heap} (h : CellOK Z G a H) (hh : H1[a]? = H[a]?) (hk : gK G1 a = gK G a) (hl : gL G1 a = gL G a) (hf : ∀ f, fI G1 f a = fI G f a ∧ fR G1 f a = fR G f a) (ha : ∀ i, aI G1 a i = aI G a i ∧ aR G1 a i = aR G a i) : CellOK Z G1 a H1 := by
  obtain ⟨h1, h2, h3, h4, h5⟩ := h
  refine ⟨fun c r hc hkk => ?_, fun t ty ht hkk => ?_, fun c nm hc hkk => ?_, fun x y => ?_, by rw [hk, hh]; exact h5⟩
  · rw [hk] at hkk
    obtain ⟨cell, q1, q2, q3, q4⟩ := h1 c r hc hkk
    refine ⟨cell, by rw [hh]; exact q1, q2, q3, fun j f hj => ?_⟩
    rw [q4 j f hj]
    unfold fval
    rw [(hf f).1, (hf f).2]
  · rw [hk] at hkk
    obtain ⟨q1, q2⟩ := h2 t ty ht hkk
    rw [hh, q1, hl]
    have e : aval t G a = aval t G1 a := by
      funext i
      unfold aval
      rw [(ha i).1, (ha i).2]
    rw [e]
    exact ⟨rfl, q2⟩
  · rw [hk] at hkk
    rw [hh]
    exact h3 c nm hc hkk
  · rw [hk] at x y
    exact h4 x y
theorem RelH.upd {Z : ZT} {G G1 : GH} {H H1 : Heap} {a : Nat} (h : RelH Z G H) (hz : H1.size = H.size) (ho : ∀ q, q ≠ a → H1[q]? = H[q]?) (hlt : a < gn G) (ha : zz Z ≤ a)
    (e1 : gn G1 = gn G) (e3 : gK G1 = gK G) (e4 : gL G1 = gL G) (hf : ∀ f b, b ≠ a → fI G1 f b = fI G f b ∧ fR G1 f b = fR G f b) (hA : ∀ b i, b ≠ a → aI G1 b i = aI G b i ∧ aR G1 b i = aR G b i) (hc : CellOK Z G1 a H1) : RelH Z G1 H1 := by
  obtain ⟨r1, r2, r3, r4, r5⟩ := h
  refine ⟨by rw [hz, r1, e1], by rw [e1]; exact r2, fun q hq => ?_, fun b hb => ?_, fun b => ?_⟩
  · rw [ho q (by omega)]; exact r3 q hq
  · rw [e1] at hb
    have hne : b ≠ a := by omega
    obtain ⟨k1, k2, k3⟩ := r4 b hb
    refine ⟨by rw [e3]; exact k1, fun f => ?_, fun i => ?_⟩
    · rw [(hf f b hne).1, (hf f b hne).2]; exact k2 f
    · rw [(hA b i hne).1, (hA b i hne).2]; exact k3 i
  · by_cases e : b = a
    · subst e; exact hc
    · exact (r5 b).congr (ho b e) (by rw [e3]) (by rw [e4]) (fun f => hf f b e) (fun i => hA b i e)
theorem RelH.lt {Z : ZT} {G : GH} {H : Heap} (h : RelH Z G H) {a : Nat} (hk : gK G a ≠ 0) : a < gn G := by
  rcases Nat.lt_or_ge a (gn G) with q | q
  · exact q
  · exact absurd (h.2.2.2.1 a q).1 hk
theorem CL_lt {c : Nat} {r : vw_C} (h : CL[c]? = some r) : c < 20 := (List.getElem?_eq_some_iff.mp h).1
section THEAP
variable {Z : ZT} {mi : MI} {d pc : Nat} {lv : List (Option Value)} {st : List Value} {G : GH} {Q : TR → GH → Prop}
theorem TCx.kn {p : Program} {l : Launch} {s : State} {m : MethodId} {meth : Method} {c : Code} (C : TCx Z mi p l s m meth c) {ci : Nat} {r : vw_C} (h : CL[ci]? = some r) : u_Kn s r.1 r.2.1 r.2.2 (zC Z ci) (zF Z ci) :=
  u_Kn_moved C.warm.alike (C.zok.2.1 ci r h)
theorem TCx.arr {p : Program} {l : Launch} {s : State} {m : MethodId} {meth : Method} {c : Code} (C : TCx Z mi p l s m meth c) {t : Nat} {ty : FieldType} (h : AT[t]? = some ty) : ArrOfT s (zA Z t) ty ∧ va_RA s (zA Z t) ty := by
  obtain ⟨h1, h2⟩ := C.zok.2.2.1 t ty h
  exact ⟨arrOfT_moved C.warm.alike h1, h2.moved C.warm.alike⟩
theorem TCx.nestF {p : Program} {l : Launch} {s : State} {m : MethodId} {meth : Method} {c : Code} (C : TCx Z mi p l s m meth c) {a : String} {i : Nat} {b n dd h : String} (hw : Cond.fieldLinkNest a i b n dd h ∈ lw_tbl) (args : Array Value) : (Cond.fieldLinkNest a i b n dd h).before args s = true :=
  va_Nw.use rfl (va_Nw.warmF C.warm (va_Nw.of rfl (C.zok.1 _ hw)))
theorem TCx.nestM {p : Program} {l : Launch} {s : State} {m : MethodId} {meth : Method} {c : Code} (C : TCx Z mi p l s m meth c) {a : String} {i : Nat} {x : MethodName} {h : String} (hw : Cond.methodLinkNest a i x h ∈ lw_tbl) : va_Nw (.methodLinkNest a i x h) s :=
  va_Nw.warmM C.warm (va_Nw.of rfl (C.zok.1 _ hw))
theorem TCx.cast {p : Program} {l : Launch} {s : State} {m : MethodId} {meth : Method} {c : Code} (C : TCx Z mi p l s m meth c) {a b : String} (hw : Cond.castable a b ∈ lw_tbl) : va_Nw (.castable a b) s :=
  va_Nw.warmC C.warm (va_Nw.of rfl (C.zok.1 _ hw))
theorem TCx.cls {p : Program} {l : Launch} {s : State} {m : MethodId} {meth : Method} {c : Code} (C : TCx Z mi p l s m meth c) {ci : Nat} {r : vw_C} (h : CL[ci]? = some r) : s.vm.findClass r.1 = some (zC Z ci) := (C.kn h).2.1
/-- an object's cell -/
theorem RelH.obj {H : Heap} (h : RelH Z G H) {c a : Nat} {r : vw_C} (hc : CL[c]? = some r) (hk : gK G a = c + 1 ∨ gK G a = c + 501) : ∃ cell : Cell, H[a]? = some cell ∧ cell.cls = zC Z c ∧ cell.vm = .none ∧ ∀ (j f : Nat), (FL c)[j]? = some f → cell.slots[zF Z c j]? = some (fval f G a) := (h.2.2.2.2 a).1 c r hc hk
theorem RelH.arr {H : Heap} (h : RelH Z G H) {t a : Nat} {ty : FieldType} (ht : AT[t]? = some ty) (hk : gK G a = 100 + t ∨ gK G a = 600 + t) : H[a]? = some (arrV (zA Z t) (gL G a) (aval t G a)) ∧ gL G a < 2 ^ 31 := (h.2.2.2.2 a).2.1 t ty ht hk
/-- what the constant pool's entry idx of the class own names: the field f -/
def FLk (own : String) (idx f : Nat) : Prop := ∃ (q : String × String × String × Bool) (ref : String), FT[f]? = some q ∧ (ref = q.1 ∨ Cond.sameField ref q.1 q.2.1 q.2.2.1 ∈ lw_all) ∧ (Cond.fieldLink own idx ref q.2.1 q.2.2.1 ∈ lw_all ∨ ∃ host, Cond.fieldLinkNest own idx ref q.2.1 q.2.2.1 host ∈ lw_tbl)
/-- the kind k has the field f -/
def KF (k f : Nat) : Prop := ∃ (c j : Nat) (r : vw_C), (k = c + 1 ∨ k = c + 501) ∧ CL[c]? = some r ∧ (FL c)[j]? = some f
def kfb (k f : Nat) : Bool := (if 501 ≤ k then decide (k - 501 < 20) && (FL (k - 501)).contains f else decide (1 ≤ k) && decide (k - 1 < 20) && (FL (k - 1)).contains f)
theorem CL_some {c : Nat} (h : c < 20) : ∃ r, CL[c]? = some r := ⟨_, List.getElem?_eq_getElem (show c < CL.length from h)⟩
theorem kf_of {k f : Nat} (h : kfb k f = true) : KF k f := by
  unfold kfb at h
  by_cases h5 : 501 ≤ k
  · rw [if_pos h5, Bool.and_eq_true] at h
    obtain ⟨r, hr⟩ := CL_some (of_decide_eq_true h.1)
    obtain ⟨j, hj⟩ := List.getElem?_of_mem (List.contains_iff_mem.mp h.2)
    exact ⟨k - 501, j, r, Or.inr (by omega), hr, hj⟩
  · rw [if_neg h5, Bool.and_eq_true, Bool.and_eq_true] at h
    obtain ⟨r, hr⟩ := CL_some (of_decide_eq_true h.1.2)
    have h1 := of_decide_eq_true h.1.1
    obtain ⟨j, hj⟩ := List.getElem?_of_mem (List.contains_iff_mem.mp h.2)
    exact ⟨k - 1, j, r, Or.inl (by omega), hr, hj⟩
theorem tw_getf {idx f a : Nat} (hd : decode (mC mi) pc = .ok (.getfield idx, 3)) (lk : FLk (mN mi).cls idx f) (hk : KF (gK G a) f) (k : TW Z mi d (pc + 3) lv (fval f G a :: st) G Q) : TW Z mi d pc lv (tR (some a) :: st) G Q := by
  refine TW.stepR (fun p l e R s m args below meth c H locs cells slots Qf C hR ls hl kk => ?_) k
  obtain ⟨ci, j, r, hk1, hc, hj⟩ := hk
  obtain ⟨cell, q1, q2, q3, q4⟩ := hR.obj hc hk1
  obtain ⟨hjl, hft⟩ := FT_ok hc hj
  obtain ⟨q, ref, hq, href, hlk⟩ := lk
  have hqq : q = r.2.1 j := Option.some.inj (hq.symm.trans hft)
  subst hqq
  have hK := C.kn hc
  obtain ⟨hS, hfc, kC, hkC, hkind⟩ := hK
  obtain ⟨cf, kf, fi, fd, hi, hsl⟩ := hS j hjl
  have hts : ∀ w ∈ lw_all, w.before args s = true := fun w h => C.wd h args
  have hst := (u_facts hfc hkC (u_lays hts (CL_in r (List.mem_of_getElem? hc)) hjl) hi).1
  have hi2 : s.fieldFound? ref (r.2.1 j).2.1 (r.2.1 j).2.2.1 = some (cf, kf, fi, fd) := by
    rcases href with e | e
    · rw [e]; exact hi
    · exact u_same (C.wd e args) _ hi
  have hv : cell.slots[fd.slot]? = some (fval f G a) := by rw [hsl]; exact q4 j f hj
  rcases hlk with h | ⟨host, h⟩
  · exact W.getf C.1 C.2.1 C.own (C.wd h args) hi2 hst q1 (by rw [q3]; exact fun h => by cases h) hv rfl rfl hd kk
  · exact va_Wgetf C.1 C.2.1 C.own (C.nestF h args) hi2 hst q1 (by rw [q3]; exact fun h => by cases h) hv rfl rfl hd kk
theorem tw_getI {idx f a : Nat} {v : Int} (hd : decode (mC mi) pc = .ok (.getfield idx, 3)) (lk : FLk (mN mi).cls idx f) (hy : fy f = 0) (hk : KF (gK G a) f) (hv : fI G f a = v) (k : TW Z mi d (pc + 3) lv (tI v :: st) G Q) : TW Z mi d pc lv (tR (some a) :: st) G Q :=
  tw_getf hd lk hk (by subst hv; unfold fval; rw [hy]; exact k)
theorem tw_getR {idx f a : Nat} {v : Option Nat} (hd : decode (mC mi) pc = .ok (.getfield idx, 3)) (lk : FLk (mN mi).cls idx f) (hy : fy f = 1) (hk : KF (gK G a) f) (hv : fR G f a = v) (k : TW Z mi d (pc + 3) lv (tR v :: st) G Q) : TW Z mi d pc lv (tR (some a) :: st) G Q :=
  tw_getf hd lk hk (by subst hv; unfold fval; rw [hy]; exact k)
theorem fidx_ap {s : State} {args : Array Value} (hts : ∀ w ∈ lw_all, w.before args s = true) {c : Nat} {r : vw_C} (hc : CL[c]? = some r) (hS : ∀ k, k < r.2.2 → SlotIs s (r.2.1 k).1 (r.2.1 k).2.1 (r.2.1 k).2.2.1 (zF Z c k)) : ∀ x y, x < r.2.2 → y < r.2.2 → x ≠ y → zF Z c x ≠ zF Z c y := by
  intro x y hx hy hne
  obtain ⟨ty, hty⟩ := CL_ty r (List.mem_of_getElem? hc)
  obtain ⟨_, _, _, fa, hia, ea⟩ := hS x hx
  obtain ⟨_, _, _, fb, hib, eb⟩ := hS y hy
  rw [← ea, ← eb]
  have hin := CL_in r (List.mem_of_getElem? hc)
  refine u_apart (u_lays hts hin hx) (u_lays hts hin hy) hia hib ?_
  rw [(State.fieldFound?_type hia (hty x hx)).1, (State.fieldFound?_type hib (hty y hy)).1]
  exact CL_nm r (List.mem_of_getElem? hc) x hx y hy hne
/-- .. and may be written: not final, of the type ty -/
def FPk (own : String) (idx f : Nat) (ty : FieldType) : Prop := ∃ (q : String × String × String × Bool) (ref : String), FT[f]? = some q ∧ q.2.2.2 = false ∧ parseFieldDescriptor q.2.2.1 = some ty ∧ (ref = q.1 ∨ Cond.sameField ref q.1 q.2.1 q.2.2.1 ∈ lw_all) ∧ (Cond.fieldLink own idx ref q.2.1 q.2.2.1 ∈ lw_all ∨ ∃ host, Cond.fieldLinkNest own idx ref q.2.1 q.2.2.1 host ∈ lw_tbl)
/-- a final field of the class itself, written by its constructor -/
def FPf (own : String) (idx f : Nat) (ty : FieldType) : Prop := ∃ (q : String × String × String × Bool), FT[f]? = some q ∧ q.2.2.2 = true ∧ parseFieldDescriptor q.2.2.1 = some ty ∧ q.1 = own ∧ Cond.fieldLink own idx own q.2.1 q.2.2.1 ∈ lw_all
/-- the kind k of one of our own cells has the field f -/
def KW (k f : Nat) : Prop := ∃ (c j : Nat) (r : vw_C), k = c + 1 ∧ CL[c]? = some r ∧ (FL c)[j]? = some f
def kwb (k f : Nat) : Bool := decide (1 ≤ k) && decide (k - 1 < 20) && (FL (k - 1)).contains f
theorem kw_of {k f : Nat} (h : kwb k f = true) : KW k f := by
  unfold kwb at h
  rw [Bool.and_eq_true, Bool.and_eq_true] at h
  obtain ⟨r, hr⟩ := CL_some (of_decide_eq_true h.1.2)
  have h1 := of_decide_eq_true h.1.1
  obtain ⟨j, hj⟩ := List.getElem?_of_mem (List.contains_iff_mem.mp h.2)
  exact ⟨k - 1, j, r, by omega, hr, hj⟩
theorem FL_nd {c : Nat} {r : vw_C} (hc : CL[c]? = some r) : (FL c).Nodup := FT_inj c (CL_lt hc)
/-- the heap behind a write of a field -/
theorem RelH.put {H H1 : Heap} (h : RelH Z G H) {G1 : GH} {c j f a : Nat} {r : vw_C} {cell : Cell} (hc : CL[c]? = some r) (hj : (FL c)[j]? = some f) (hk : gK G a = c + 1) (hcell : H[a]? = some cell)
    (hap : ∀ x y, x < r.2.2 → y < r.2.2 → x ≠ y → zF Z c x ≠ zF Z c y) (hz : H1.size = H.size) (ho : ∀ q, q ≠ a → H1[q]? = H[q]?) (h1 : H1[a]? = some (cell.setSlot (zF Z c j) (fval f G1 a)))
    (e1 : gn G1 = gn G) (e3 : gK G1 = gK G) (e4 : gL G1 = gL G) (hf : ∀ f' b, (f' ≠ f ∨ b ≠ a) → fI G1 f' b = fI G f' b ∧ fR G1 f' b = fR G f' b) (hA : ∀ b i, aI G1 b i = aI G b i ∧ aR G1 b i = aR G b i) : RelH Z G1 H1 := by
  have hlt : a < gn G := h.lt (by omega)
  have hcl := CL_lt hc
  have ha : zz Z ≤ a := (h.2.2.2.2 a).2.2.2.1 (by omega) (by omega)
  refine h.upd hz ho hlt ha e1 e3 e4 (fun f' b hb => hf f' b (Or.inr hb)) (fun b i _ => hA b i) ?_
  obtain ⟨cell', q1, q2, q3, q4⟩ := h.obj hc (Or.inl hk)
  cases Option.some.inj (q1.symm.trans hcell)
  obtain ⟨hjl, -⟩ := FT_ok hc hj
  refine ⟨fun c' r' hc' hk' => ?_, fun t ty ht hk' => ?_, fun c' nm hc' hk' => ?_, fun _ _ => ha, by rw [h1, e3]; exact (h.2.2.2.2 a).2.2.2.2.slot hcell⟩
  · rw [e3, hk] at hk'
    have hcc : c' = c := by have := CL_lt hc'; omega
    subst hcc
    refine ⟨_, h1, q2, q3, fun j' f' hj' => ?_⟩
    have hjl' := (FT_ok hc hj').1
    have hlen := FL_len hc
    have hq : ∀ k, k < r.2.2 → cell.slots[zF Z c' k]? = some ((fun k => match (FL c')[k]? with | some f0 => fval f0 G a | none => .null) k) := by
      intro k hk2
      obtain ⟨f0, hf0⟩ : ∃ f0, (FL c')[k]? = some f0 := ⟨_, List.getElem?_eq_getElem (by omega)⟩
      rw [q4 k f0 hf0]
      simp only [hf0]
    have hs := t_set hq hap hjl (fval f G1 a) j' hjl'
    rw [hs]
    by_cases e : j' = j
    · subst e
      have : f' = f := Option.some.inj (hj'.symm.trans hj)
      subst this
      simp [updV]
    · have hne : f' ≠ f := by
        intro e2
        subst e2
        have i1 := (List.getElem?_eq_some_iff.mp hj').1
        exact e ((List.getElem_inj (h₀ := i1) (h₁ := (List.getElem?_eq_some_iff.mp hj).1) (FL_nd hc)).mp ((List.getElem?_eq_some_iff.mp hj').2.trans (List.getElem?_eq_some_iff.mp hj).2.symm))
      simp only [updV, if_neg e, hj']
      unfold fval
      rw [(hf f' a (Or.inl hne)).1, (hf f' a (Or.inl hne)).2]
  · rw [e3, hk] at hk'
    have : t < 11 := (List.getElem?_eq_some_iff.mp ht).1
    omega
  · rw [e3, hk] at hk'
    omega
theorem tw_putf {idx f a : Nat} {ty : FieldType} {v : Value} {G1 : GH} (hd : decode (mC mi) pc = .ok (.putfield idx, 3)) (lk : FPk (mN mi).cls idx f ty) (hk : KW (gK G a) f) (hn : narrow ty v = v) (hfit : fits ty v = true) (hv : fval f G1 a = v)
    (e1 : gn G1 = gn G) (e2 : gs G1 = gs G) (e3 : gK G1 = gK G) (e4 : gL G1 = gL G) (hf : ∀ f' b, (f' ≠ f ∨ b ≠ a) → fI G1 f' b = fI G f' b ∧ fR G1 f' b = fR G f' b) (hA : ∀ b i, aI G1 b i = aI G b i ∧ aR G1 b i = aR G b i)
    (k : TW Z mi d (pc + 3) lv st G1 Q) : TW Z mi d pc lv (v :: tR (some a) :: st) G Q := by
  refine TW.stepH e1 e2 (fun p l e R s m args below meth c H locs cells slots Qf C hR ls hl kk => ?_) k
  obtain ⟨ci, j, r, hk1, hc, hj⟩ := hk
  obtain ⟨cell, q1, q2, q3, q4⟩ := hR.obj hc (Or.inl hk1)
  obtain ⟨hjl, hft⟩ := FT_ok hc hj
  obtain ⟨q, ref, hq, hfin, hty, href, hlk⟩ := lk
  have hqq : q = r.2.1 j := Option.some.inj (hq.symm.trans hft)
  subst hqq
  have hK := C.kn hc
  obtain ⟨hS, hfc, kC, hkC, hkind⟩ := hK
  obtain ⟨cf, kf, fi, fd, hi, hsl⟩ := hS j hjl
  have hts : ∀ w ∈ lw_all, w.before args s = true := fun w h => C.wd h args
  have hin := CL_in r (List.mem_of_getElem? hc)
  have hst := (u_facts hfc hkC (u_lays hts hin hjl) hi).1
  have hlay := hts _ (hin _ (u_in_lay hjl))
  unfold u_lay at hlay
  rw [if_neg (by rw [hfin]; decide)] at hlay
  have h6 := u_store hfc hkC hkind hlay hi hty hn hfit
  have hi2 : s.fieldFound? ref (r.2.1 j).2.1 (r.2.1 j).2.2.1 = some (cf, kf, fi, fd) := by
    rcases href with e | e
    · rw [e]; exact hi
    · exact u_same (C.wd e args) _ hi
  have hz0 : zz Z ≤ a := (hR.2.2.2.2 a).2.2.2.1 (by omega) (by have := CL_lt hc; omega)
  have fin : ∀ H' : Heap, H'[a]? = some (cell.setSlot fd.slot v) → H'.size = H.size → (∀ q, q ≠ a → H'[q]? = H[q]?) → RelH Z G1 H' := by
    intro H' g1 g2 g3
    rw [hsl, ← hv] at g1
    exact hR.put hc hj hk1 q1 (fidx_ap hts hc hS) g2 g3 g1 e1 e3 e4 hf hA
  rcases hlk with h | ⟨host, h⟩
  · refine W.putK C.1 C.2.1 (f := fd) ⟨C.own, C.wd h args, ⟨_, _, _, hi2⟩, hst⟩ (by rw [q2]; exact h6) q1 q3 (by rw [hsl]; exact k2_hasslot (q4 j f hj)) rfl rfl hd fun H' g1 g2 g3 => ?_
    exact kk H' _ (fin H' g1 g2 g3) hz0
  · refine va_WputK C.1 C.2.1 (f := fd) C.own (C.nestF h args) hi2 hst (by rw [q2]; exact h6) q1 q3 (by rw [hsl]; exact k2_hasslot (q4 j f hj)) rfl rfl hd fun H' g1 g2 g3 => ?_
    exact kk H' _ (fin H' g1 g2 g3) hz0
theorem tw_putF {idx f a : Nat} {ty : FieldType} {v : Value} {G1 : GH} (hd : decode (mC mi) pc = .ok (.putfield idx, 3)) (hini : (mN mi).name = "<init>") (lk : FPf (mN mi).cls idx f ty) (hk : KW (gK G a) f) (hn : narrow ty v = v) (hfit : fits ty v = true) (hv : fval f G1 a = v)
    (e1 : gn G1 = gn G) (e2 : gs G1 = gs G) (e3 : gK G1 = gK G) (e4 : gL G1 = gL G) (hf : ∀ f' b, (f' ≠ f ∨ b ≠ a) → fI G1 f' b = fI G f' b ∧ fR G1 f' b = fR G f' b) (hA : ∀ b i, aI G1 b i = aI G b i ∧ aR G1 b i = aR G b i)
    (k : TW Z mi d (pc + 3) lv st G1 Q) : TW Z mi d pc lv (v :: tR (some a) :: st) G Q := by
  refine TW.stepH e1 e2 (fun p l e R s m args below meth c H locs cells slots Qf C hR ls hl kk => ?_) k
  obtain ⟨ci, j, r, hk1, hc, hj⟩ := hk
  obtain ⟨cell, q1, q2, q3, q4⟩ := hR.obj hc (Or.inl hk1)
  obtain ⟨hjl, hft⟩ := FT_ok hc hj
  obtain ⟨q, hq, hfin, hty, hown, hlk⟩ := lk
  have hqq : q = r.2.1 j := Option.some.inj (hq.symm.trans hft)
  subst hqq
  have hK := C.kn hc
  obtain ⟨hS, hfc, kC, hkC, hkind⟩ := hK
  obtain ⟨cf, kf, fi, fd, hi, hsl⟩ := hS j hjl
  have hts : ∀ w ∈ lw_all, w.before args s = true := fun w h => C.wd h args
  have hin := CL_in r (List.mem_of_getElem? hc)
  have hst := (u_facts hfc hkC (u_lays hts hin hjl) hi).1
  have hlay := hts _ (hin _ (u_in_lay hjl))
  unfold u_lay at hlay
  rw [if_pos hfin] at hlay
  have hcf : m.cls = cf := by
    obtain ⟨_, _, c', _, _, _, -, -, hf', -, -, -, hown2, -⟩ := Cond.laysFinal_spec hlay
    have e1 : c' = cf := by have := hi.symm.trans hf'; simp at this; exact this.1.symm
    rw [hown] at hown2
    rw [← e1]; exact Option.some.inj (C.own.symm.trans hown2)
  have h6 := u_fits hfc hkC hkind (Or.inr hlay) hi hty hn hfit
  have hz0 : zz Z ≤ a := (hR.2.2.2.2 a).2.2.2.1 (by omega) (by have := CL_lt hc; omega)
  have hi2 : s.fieldFound? (mN mi).cls (r.2.1 j).2.1 (r.2.1 j).2.2.1 = some (cf, kf, fi, fd) := by rw [← hown]; exact hi
  refine W.putFinK C.1 C.2.1 C.own (C.wd hlk args) hi2 hst hcf (by rw [C.2.2.2.2.2.2.1]; exact hini) (by rw [q2]; exact h6) q1 q3 (by rw [hsl]; exact k2_hasslot (q4 j f hj)) rfl rfl hd fun H' g1 g2 g3 => ?_
  rw [hsl, ← hv] at g1
  exact kk H' _ (hR.put hc hj hk1 q1 (fidx_ap hts hc hS) g2 g3 g1 e1 e3 e4 hf hA) hz0
theorem up2_ne {α : Type} {F : Nat → Nat → α} {i j : Nat} {v : α} {i' j' : Nat} (h : i' ≠ i ∨ j' ≠ j) : up2 F i j v i' j' = F i' j' := by
  unfold up2
  rw [if_neg]
  rintro ⟨e1, e2⟩
  rcases h with h | h
  · exact h e1
  · exact h e2
theorem up2_at {α : Type} {F : Nat → Nat → α} {i j : Nat} {v : α} : up2 F i j v i j = v := by unfold up2; rw [if_pos ⟨rfl, rfl⟩]
theorem nar_R {ty : FieldType} (h : ty.isReference = true) (r : Option Nat) : narrow ty (tR r) = tR r ∧ fits ty (tR r) = true := by
  cases ty <;> first | (cases r <;> exact ⟨rfl, rfl⟩) | cases h
theorem setI_o {f a : Nat} {v : Int} : ∀ f' b, (f' ≠ f ∨ b ≠ a) → fI (setI G f a v) f' b = fI G f' b ∧ fR (setI G f a v) f' b = fR G f' b := fun f' b h => ⟨up2_ne h, rfl⟩
theorem setR_o {f a : Nat} {v : Option Nat} : ∀ f' b, (f' ≠ f ∨ b ≠ a) → fI (setR G f a v) f' b = fI G f' b ∧ fR (setR G f a v) f' b = fR G f' b := fun f' b h => ⟨rfl, up2_ne h⟩
theorem setI_v {f a : Nat} {v : Int} (hy : fy f = 0) : fval f (setI G f a v) a = tI v := by
  unfold fval
  rw [hy]
  show tI (up2 (fI G) f a v f a) = _
  rw [up2_at]
theorem setR_v {f a : Nat} {v : Option Nat} (hy : fy f = 1) : fval f (setR G f a v) a = tR v := by
  unfold fval
  rw [hy]
  show tR (up2 (fR G) f a v f a) = _
  rw [up2_at]
theorem tw_putI {idx f a : Nat} {x : Int} (hd : decode (mC mi) pc = .ok (.putfield idx, 3)) (lk : FPk (mN mi).cls idx f .int) (hy : fy f = 0) (hk : KW (gK G a) f) (k : TW Z mi d (pc + 3) lv st (setI G f a x) Q) : TW Z mi d pc lv (tI x :: tR (some a) :: st) G Q :=
  tw_putf hd lk hk rfl rfl (setI_v hy) rfl rfl rfl rfl setI_o (fun _ _ => ⟨rfl, rfl⟩) k
theorem tw_putR {idx f a : Nat} {r : Option Nat} {ty : FieldType} (hd : decode (mC mi) pc = .ok (.putfield idx, 3)) (lk : FPk (mN mi).cls idx f ty) (hy : fy f = 1) (hr : ty.isReference = true) (hk : KW (gK G a) f) (k : TW Z mi d (pc + 3) lv st (setR G f a r) Q) : TW Z mi d pc lv (tR r :: tR (some a) :: st) G Q :=
  tw_putf hd lk hk (nar_R hr r).1 (nar_R hr r).2 (setR_v hy) rfl rfl rfl rfl setR_o (fun _ _ => ⟨rfl, rfl⟩) k
theorem tw_putZ {idx f a : Nat} {x : Int} (hd : decode (mC mi) pc = .ok (.putfield idx, 3)) (lk : FPk (mN mi).cls idx f .boolean) (hy : fy f = 0) (hx : x = 0 ∨ x = 1) (hk : KW (gK G a) f) (k : TW Z mi d (pc + 3) lv st (setI G f a x) Q) : TW Z mi d pc lv (tI x :: tR (some a) :: st) G Q :=
  tw_putf hd lk hk (by rcases hx with e | e <;> (subst e; rfl)) (by rcases hx with e | e <;> (subst e; rfl)) (setI_v hy) rfl rfl rfl rfl setI_o (fun _ _ => ⟨rfl, rfl⟩) k
theorem tw_putB {idx f a : Nat} {x : Int} (hd : decode (mC mi) pc = .ok (.putfield idx, 3)) (lk : FPk (mN mi).cls idx f .byte) (hy : fy f = 0) (hx : x = 0 ∨ x = 1) (hk : KW (gK G a) f) (k : TW Z mi d (pc + 3) lv st (setI G f a x) Q) : TW Z mi d pc lv (tI x :: tR (some a) :: st) G Q :=
  tw_putf hd lk hk (by rcases hx with e | e <;> (subst e; rfl)) (by rcases hx with e | e <;> (subst e; decide)) (setI_v hy) rfl rfl rfl rfl setI_o (fun _ _ => ⟨rfl, rfl⟩) k
theorem tw_putIf {idx f a : Nat} {x : Int} (hd : decode (mC mi) pc = .ok (.putfield idx, 3)) (hini : (mN mi).name = "<init>") (lk : FPf (mN mi).cls idx f .int) (hy : fy f = 0) (hk : KW (gK G a) f) (k : TW Z mi d (pc + 3) lv st (setI G f a x) Q) : TW Z mi d pc lv (tI x :: tR (some a) :: st) G Q :=
  tw_putF hd hini lk hk rfl rfl (setI_v hy) rfl rfl rfl rfl setI_o (fun _ _ => ⟨rfl, rfl⟩) k
theorem tw_putRf {idx f a : Nat} {r : Option Nat} {ty : FieldType} (hd : decode (mC mi) pc = .ok (.putfield idx, 3)) (hini : (mN mi).name = "<init>") (lk : FPf (mN mi).cls idx f ty) (hy : fy f = 1) (hr : ty.isReference = true) (hk : KW (gK G a) f) (k : TW Z mi d (pc + 3) lv st (setR G f a r) Q) : TW Z mi d pc lv (tR r :: tR (some a) :: st) G Q :=
  tw_putF hd hini lk hk (nar_R hr r).1 (nar_R hr r).2 (setR_v hy) rfl rfl rfl rfl setR_o (fun _ _ => ⟨rfl, rfl⟩) k
theorem tw_putZf {idx f a : Nat} {x : Int} (hd : decode (mC mi) pc = .ok (.putfield idx, 3)) (hini : (mN mi).name = "<init>") (lk : FPf (mN mi).cls idx f .boolean) (hy : fy f = 0) (hx : x = 0 ∨ x = 1) (hk : KW (gK G a) f) (k : TW Z mi d (pc + 3) lv st (setI G f a x) Q) : TW Z mi d pc lv (tI x :: tR (some a) :: st) G Q :=
  tw_putF hd hini lk hk (by rcases hx with e | e <;> (subst e; rfl)) (by rcases hx with e | e <;> (subst e; rfl)) (setI_v hy) rfl rfl rfl rfl setI_o (fun _ _ => ⟨rfl, rfl⟩) k
theorem tw_putBf {idx f a : Nat} {x : Int} (hd : decode (mC mi) pc = .ok (.putfield idx, 3)) (hini : (mN mi).name = "<init>") (lk : FPf (mN mi).cls idx f .byte) (hy : fy f = 0) (hx : x = 0 ∨ x = 1) (hk : KW (gK G a) f) (k : TW Z mi d (pc + 3) lv st (setI G f a x) Q) : TW Z mi d pc lv (tI x :: tR (some a) :: st) G Q :=
  tw_putF hd hini lk hk (by rcases hx with e | e <;> (subst e; rfl)) (by rcases hx with e | e <;> (subst e; decide)) (setI_v hy) rfl rfl rfl rfl setI_o (fun _ _ => ⟨rfl, rfl⟩) k
/-- a float field: kept by its bits -/
theorem tw_putFf {idx f a : Nat} {b : UInt32} (hd : decode (mC mi) pc = .ok (.putfield idx, 3)) (hini : (mN mi).name = "<init>") (lk : FPf (mN mi).cls idx f .float) (hy : fy f = 2) (hk : KW (gK G a) f) (k : TW Z mi d (pc + 3) lv st (setI G f a b.toNat) Q) : TW Z mi d pc lv (.float b :: tR (some a) :: st) G Q :=
  tw_putF (G1 := setI G f a b.toNat) hd hini lk hk rfl rfl (by
    unfold fval
    rw [hy]
    show Value.float (UInt32.ofNat (up2 (fI G) f a (b.toNat : Int) f a).toNat) = _
    rw [up2_at]
    simp) rfl rfl rfl rfl setI_o (fun _ _ => ⟨rfl, rfl⟩) k
-- arrays
theorem ix_in {i : Int} {n : Nat} (h0 : 0 ≤ i) (h1 : i < n) (hn : n < 2 ^ 31) : ¬ (Int32.ofInt i < 0 ∨ n ≤ (Int32.ofInt i).toNatClampNeg) := by
  have hr : inR i := ⟨by omega, by omega⟩
  rw [i_zero, i_lt hr (by decide), i_nat hr]
  omega
def KA (k t : Nat) : Prop := k = 100 + t ∨ k = 600 + t
theorem tw_alen {t a n : Nat} {ty : FieldType} (hd : decode (mC mi) pc = .ok (.arraylength, 1)) (ht : AT[t]? = some ty) (hk : KA (gK G a) t) (hn : gL G a = n) (k : TW Z mi d (pc + 1) lv (tI (n : Int) :: st) G Q) : TW Z mi d pc lv (tR (some a) :: st) G Q := by
  refine TW.stepR (fun p l e R s m args below meth c H locs cells slots Qf C hR ls hl kk => ?_) k
  subst hn
  exact W.alen C.1 C.2.1 (hR.arr ht hk).1 ((C.arr ht).1 _ _) (by rw [arrV_size]; exact Int32.ofInt_eq_ofNat.symm) rfl rfl hd kk
theorem tw_iald {a n : Nat} {i v : Int} (hd : decode (mC mi) pc = .ok (.iaload, 1)) (hk : KA (gK G a) 0) (hn : gL G a = n) (h0 : 0 ≤ i) (h1 : i < n) (hv : aI G a i.toNat = v) (k : TW Z mi d (pc + 1) lv (tI v :: st) G Q) : TW Z mi d pc lv (tI i :: tR (some a) :: st) G Q := by
  refine TW.stepR (fun p l e R s m args below meth c H locs cells slots Qf C hR ls hl kk => ?_) k
  obtain ⟨q1, q2⟩ := hR.arr (t := 0) (ty := .int) rfl hk
  subst hn
  exact W.iald C.1 C.2.1 q1 ((C.arr (t := 0) (ty := .int) rfl).1 _ _) (fun q => by cases q) (by rw [arrV_size]; exact ix_in h0 h1 q2) (by rw [i_nat ⟨by omega, by omega⟩, arrV_read _ _ (by omega), ← hv]; rfl) rfl rfl hd kk
theorem tw_bald {a n : Nat} {i v : Int} (hd : decode (mC mi) pc = .ok (.baload, 1)) (hk : KA (gK G a) 1) (hn : gL G a = n) (h0 : 0 ≤ i) (h1 : i < n) (hv : aI G a i.toNat = v) (k : TW Z mi d (pc + 1) lv (tI v :: st) G Q) : TW Z mi d pc lv (tI i :: tR (some a) :: st) G Q := by
  refine TW.stepR (fun p l e R s m args below meth c H locs cells slots Qf C hR ls hl kk => ?_) k
  obtain ⟨q1, q2⟩ := hR.arr (t := 1) (ty := .byte) rfl hk
  subst hn
  exact W.bald C.1 C.2.1 q1 ((C.arr (t := 1) (ty := .byte) rfl).1 _ _) (fun q => by cases q) (by rw [arrV_size]; exact ix_in h0 h1 q2) (by rw [i_nat ⟨by omega, by omega⟩, arrV_read _ _ (by omega), ← hv]; rfl) rfl rfl hd kk
theorem tw_zald {a n : Nat} {i v : Int} (hd : decode (mC mi) pc = .ok (.baload, 1)) (hk : KA (gK G a) 2) (hn : gL G a = n) (h0 : 0 ≤ i) (h1 : i < n) (hv : aI G a i.toNat = v) (k : TW Z mi d (pc + 1) lv (tI v :: st) G Q) : TW Z mi d pc lv (tI i :: tR (some a) :: st) G Q := by
  refine TW.stepR (fun p l e R s m args below meth c H locs cells slots Qf C hR ls hl kk => ?_) k
  obtain ⟨q1, q2⟩ := hR.arr (t := 2) (ty := .boolean) rfl hk
  subst hn
  exact W.zald C.1 C.2.1 q1 ((C.arr (t := 2) (ty := .boolean) rfl).1 _ _) (fun q => by cases q) (by rw [arrV_size]; exact ix_in h0 h1 q2) (by rw [i_nat ⟨by omega, by omega⟩, arrV_read _ _ (by omega), ← hv]; rfl) rfl rfl hd kk
theorem tw_lald {a n : Nat} {i v : Int} (hd : decode (mC mi) pc = .ok (.laload, 1)) (hk : KA (gK G a) 3) (hn : gL G a = n) (h0 : 0 ≤ i) (h1 : i < n) (hv : aI G a i.toNat = v) (k : TW Z mi d (pc + 1) lv (tL v :: st) G Q) : TW Z mi d pc lv (tI i :: tR (some a) :: st) G Q := by
  refine TW.stepR (fun p l e R s m args below meth c H locs cells slots Qf C hR ls hl kk => ?_) k
  obtain ⟨q1, q2⟩ := hR.arr (t := 3) (ty := .long) rfl hk
  subst hn
  exact W.lald C.1 C.2.1 q1 ((C.arr (t := 3) (ty := .long) rfl).1 _ _) (fun q => by cases q) (by rw [arrV_size]; exact ix_in h0 h1 q2) (by rw [i_nat ⟨by omega, by omega⟩, arrV_read _ _ (by omega), ← hv]; rfl) rfl rfl hd kk
theorem AT_ref {t : Nat} {C : String} (ht : AT[t]? = some (.object C)) : ay t = 1 := by
  have : t < 11 := (List.getElem?_eq_some_iff.mp ht).1
  match t, this, ht with
  | 0, _, ht => cases ht
  | 1, _, ht => cases ht
  | 2, _, ht => cases ht
  | 3, _, ht => cases ht
  | 4, _, ht => cases ht
  | t + 5, h, _ =>
    unfold ay
    rw [if_neg (by omega), if_pos (by omega)]
theorem aval_R {t : Nat} {C : String} (ht : AT[t]? = some (.object C)) (a i : Nat) : aval t G a i = tR (aR G a i) := by unfold aval; rw [AT_ref ht]; rfl
theorem tw_aald {t a n : Nat} {C : String} {i : Int} {v : Option Nat} (hd : decode (mC mi) pc = .ok (.aaload, 1)) (ht : AT[t]? = some (.object C)) (hk : KA (gK G a) t) (hn : gL G a = n) (h0 : 0 ≤ i) (h1 : i < n) (hv : aR G a i.toNat = v) (k : TW Z mi d (pc + 1) lv (tR v :: st) G Q) : TW Z mi d pc lv (tI i :: tR (some a) :: st) G Q := by
  refine TW.stepR (fun p l e R s m args below meth c H locs cells slots Qf C hR ls hl kk => ?_) k
  obtain ⟨q1, q2⟩ := hR.arr ht hk
  subst hn
  exact W.aald (ty := .object _) C.1 C.2.1 q1 ((C.arr ht).1 _ _) rfl (fun q => by cases q) (by rw [arrV_size]; exact ix_in h0 h1 q2) (by rw [i_nat ⟨by omega, by omega⟩, arrV_read _ _ (by omega), aval_R ht, hv]) rfl rfl hd kk
/-- the heap behind a write of an array's place -/
theorem RelH.ast {H H1 : Heap} (h : RelH Z G H) {G1 : GH} {t a i : Nat} {ty : FieldType} {v : Value} (ht : AT[t]? = some ty) (hk : gK G a = 100 + t) (hz : H1.size = H.size) (ho : ∀ q, q ≠ a → H1[q]? = H[q]?)
    (h1 : H1[a]? = some ((arrV (zA Z t) (gL G a) (aval t G a)).setSlot i v)) (hv : ∀ j, aval t G1 a j = if j = i then v else aval t G a j)
    (e1 : gn G1 = gn G) (e3 : gK G1 = gK G) (e4 : gL G1 = gL G) (hf : ∀ f b, fI G1 f b = fI G f b ∧ fR G1 f b = fR G f b) (hA : ∀ b j, b ≠ a → aI G1 b j = aI G b j ∧ aR G1 b j = aR G b j) : RelH Z G1 H1 := by
  have htl : t < 11 := (List.getElem?_eq_some_iff.mp ht).1
  have hlt : a < gn G := h.lt (by omega)
  have ha : zz Z ≤ a := (h.2.2.2.2 a).2.2.2.1 (by omega) (by omega)
  refine h.upd hz ho hlt ha e1 e3 e4 (fun f b _ => hf f b) hA ?_
  refine ⟨fun c' r' hc' hk' => ?_, fun t' ty' ht' hk' => ?_, fun c' nm hc' hk' => ?_, fun _ _ => ha, by rw [e3, hk]; exact MonF.big (by omega)⟩
  · rw [e3, hk] at hk'
    have := CL_lt hc'
    omega
  · rw [e3, hk] at hk'
    have : t' = t := by have := (List.getElem?_eq_some_iff.mp ht').1; have : AT.length = 11 := rfl; omega
    subst this
    rw [h1, arrV_store, e4]
    have e : updV (aval t' G a) i v = aval t' G1 a := by funext j; rw [hv j]; rfl
    rw [e]
    exact ⟨rfl, (h.arr ht (Or.inl hk)).2⟩
  · rw [e3, hk] at hk'
    have : c' < 3 := (List.getElem?_eq_some_iff.mp hc').1
    omega
theorem setA_o {a i : Nat} {v : Int} : ∀ b j, b ≠ a → aI (setA G a i v) b j = aI G b j ∧ aR (setA G a i v) b j = aR G b j := fun b j h => ⟨up2_ne (Or.inl h), rfl⟩
theorem setQ_o {a i : Nat} {v : Option Nat} : ∀ b j, b ≠ a → aI (setQ G a i v) b j = aI G b j ∧ aR (setQ G a i v) b j = aR G b j := fun b j h => ⟨rfl, up2_ne (Or.inl h)⟩
theorem setA_v {t a i : Nat} {v : Int} (hy : ay t = 0) (j : Nat) : aval t (setA G a i v) a j = if j = i then tI v else aval t G a j := by
  unfold aval
  rw [hy]
  show tI (up2 (aI G) a i v a j) = _
  by_cases e : j = i
  · rw [if_pos e, e, up2_at]
  · rw [if_neg e, up2_ne (Or.inr e)]; rfl
theorem setA_l {t a i : Nat} {v : Int} (hy : ay t = 2) (j : Nat) : aval t (setA G a i v) a j = if j = i then tL v else aval t G a j := by
  unfold aval
  rw [hy]
  show tL (up2 (aI G) a i v a j) = _
  by_cases e : j = i
  · rw [if_pos e, e, up2_at]
  · rw [if_neg e, up2_ne (Or.inr e)]; rfl
theorem setQ_v {t a i : Nat} {v : Option Nat} (hy : ay t = 1) (j : Nat) : aval t (setQ G a i v) a j = if j = i then tR v else aval t G a j := by
  unfold aval
  rw [hy]
  show tR (up2 (aR G) a i v a j) = _
  by_cases e : j = i
  · rw [if_pos e, e, up2_at]
  · rw [if_neg e, up2_ne (Or.inr e)]; rfl
theorem tw_iast {a n : Nat} {i x : Int} (hd : decode (mC mi) pc = .ok (.iastore, 1)) (hk : gK G a = 100) (hn : gL G a = n) (h0 : 0 ≤ i) (h1 : i < n) (k : TW Z mi d (pc + 1) lv st (setA G a i.toNat x) Q) : TW Z mi d pc lv (tI x :: tI i :: tR (some a) :: st) G Q := by
  refine TW.stepH (G1 := setA G a i.toNat x) rfl rfl (fun p l e R s m args below meth c H locs cells slots Qf C hR ls hl kk => ?_) k
  obtain ⟨q1, q2⟩ := hR.arr (t := 0) (ty := .int) rfl (Or.inl hk)
  subst hn
  refine W.iast C.1 C.2.1 q1 ((C.arr (t := 0) (ty := .int) rfl).1 _ _) (fun q => by cases q) (by rw [arrV_size]; exact ix_in h0 h1 q2) rfl rfl hd fun H1 g1 g2 g3 => ?_
  rw [i_nat ⟨by omega, by omega⟩] at g1 ⊢
  exact kk H1 _ (hR.ast (t := 0) rfl hk g2 g3 g1 (setA_v rfl) rfl rfl rfl (fun _ _ => ⟨rfl, rfl⟩) setA_o) ((hR.2.2.2.2 a).2.2.2.1 (by omega) (by omega))
theorem tw_zast {a n : Nat} {i x : Int} (hd : decode (mC mi) pc = .ok (.bastore, 1)) (hk : gK G a = 102) (hn : gL G a = n) (h0 : 0 ≤ i) (h1 : i < n) (hx : x = 0 ∨ x = 1) (k : TW Z mi d (pc + 1) lv st (setA G a i.toNat x) Q) : TW Z mi d pc lv (tI x :: tI i :: tR (some a) :: st) G Q := by
  refine TW.stepH (G1 := setA G a i.toNat x) rfl rfl (fun p l e R s m args below meth c H locs cells slots Qf C hR ls hl kk => ?_) k
  obtain ⟨q1, q2⟩ := hR.arr (t := 2) (ty := .boolean) rfl (Or.inl hk)
  subst hn
  refine W.zast C.1 C.2.1 q1 ((C.arr (t := 2) (ty := .boolean) rfl).1 _ _) (fun q => by cases q) (by rw [arrV_size]; exact ix_in h0 h1 q2) rfl rfl hd fun H1 g1 g2 g3 => ?_
  rw [i_nat ⟨by omega, by omega⟩] at g1 ⊢
  exact kk H1 _ (hR.ast (t := 2) rfl hk g2 g3 g1 (fun j => by rw [show narrow .boolean (Value.int (Int32.ofInt x)) = tI x by rcases hx with e | e <;> (subst e; rfl)]; exact setA_v rfl j) rfl rfl rfl (fun _ _ => ⟨rfl, rfl⟩) setA_o) ((hR.2.2.2.2 a).2.2.2.1 (by omega) (by omega))
theorem tw_bast {a n : Nat} {i x : Int} (hd : decode (mC mi) pc = .ok (.bastore, 1)) (hk : gK G a = 101) (hn : gL G a = n) (h0 : 0 ≤ i) (h1 : i < n) (k : TW Z mi d (pc + 1) lv st (setA G a i.toNat (i2b x)) Q) : TW Z mi d pc lv (tI x :: tI i :: tR (some a) :: st) G Q := by
  refine TW.stepH (G1 := setA G a i.toNat (i2b x)) rfl rfl (fun p l e R s m args below meth c H locs cells slots Qf C hR ls hl kk => ?_) k
  obtain ⟨q1, q2⟩ := hR.arr (t := 1) (ty := .byte) rfl (Or.inl hk)
  subst hn
  refine W.bast C.1 C.2.1 q1 ((C.arr (t := 1) (ty := .byte) rfl).1 _ _) (fun q => by cases q) (by rw [arrV_size]; exact ix_in h0 h1 q2) rfl rfl hd fun H1 g1 g2 g3 => ?_
  rw [i_nat ⟨by omega, by omega⟩] at g1 ⊢
  exact kk H1 _ (hR.ast (t := 1) rfl hk g2 g3 g1 (fun j => by rw [show narrow .byte (Value.int (Int32.ofInt x)) = tI (i2b x) from i_of _]; exact setA_v rfl j) rfl rfl rfl (fun _ _ => ⟨rfl, rfl⟩) setA_o) ((hR.2.2.2.2 a).2.2.2.1 (by omega) (by omega))
theorem tw_last {a n : Nat} {i x : Int} (hd : decode (mC mi) pc = .ok (.lastore, 1)) (hk : gK G a = 103) (hn : gL G a = n) (h0 : 0 ≤ i) (h1 : i < n) (k : TW Z mi d (pc + 1) lv st (setA G a i.toNat x) Q) : TW Z mi d pc lv (tL x :: tI i :: tR (some a) :: st) G Q := by
  refine TW.stepH (G1 := setA G a i.toNat x) rfl rfl (fun p l e R s m args below meth c H locs cells slots Qf C hR ls hl kk => ?_) k
  obtain ⟨q1, q2⟩ := hR.arr (t := 3) (ty := .long) rfl (Or.inl hk)
  subst hn
  refine W.last C.1 C.2.1 q1 ((C.arr (t := 3) (ty := .long) rfl).1 _ _) (fun q => by cases q) (by rw [arrV_size]; exact ix_in h0 h1 q2) rfl rfl hd fun H1 g1 g2 g3 => ?_
  rw [i_nat ⟨by omega, by omega⟩] at g1 ⊢
  exact kk H1 _ (hR.ast (t := 3) rfl hk g2 g3 g1 (setA_l rfl) rfl rfl rfl (fun _ _ => ⟨rfl, rfl⟩) setA_o) ((hR.2.2.2.2 a).2.2.2.1 (by omega) (by omega))
/-- may an object of kind k lie in an array of E's? -/
def KE (k : Nat) (E : String) : Prop := ∃ (c : Nat) (r : vw_C), (k = c + 1 ∨ k = c + 501) ∧ CL[c]? = some r ∧ (r.1 = E ∨ Cond.castable r.1 E ∈ lw_tbl)
theorem tw_aast {t a n v : Nat} {E : String} {i : Int} (hd : decode (mC mi) pc = .ok (.aastore, 1)) (ht : AT[t]? = some (.object E)) (hk : gK G a = 100 + t) (hn : gL G a = n) (h0 : 0 ≤ i) (h1 : i < n) (hv : KE (gK G v) E) (k : TW Z mi d (pc + 1) lv st (setQ G a i.toNat (some v)) Q) : TW Z mi d pc lv (tR (some v) :: tI i :: tR (some a) :: st) G Q := by
  refine TW.stepH (G1 := setQ G a i.toNat (some v)) rfl rfl (fun p l e R s m args below meth c H locs cells slots Qf C hR ls hl kk => ?_) k
  obtain ⟨q1, q2⟩ := hR.arr ht (Or.inl hk)
  have htl : t < 11 := (List.getElem?_eq_some_iff.mp ht).1
  subst hn
  obtain ⟨cv, r, hkv, hcv, hE⟩ := hv
  obtain ⟨cell, w1, w2, w3, -⟩ := hR.obj hcv hkv
  obtain ⟨hAr, kA, comp, f2, f3, f4, -⟩ := C.arr ht
  obtain ⟨hcl, kC, hkC, -⟩ := (C.kn hcv).2
  have hasg : s.vm.assignable cell.cls comp = true := by
    rw [w2]
    rcases hE with e | e
    · have : comp = zC Z cv := by rw [← e] at f4; exact Option.some.inj (f4.symm.trans hcl)
      rw [this]
      exact va_assign (C.kn hcv).2
    · obtain ⟨c3, c4, g3, g4, g5⟩ := Cond.castable_spec (va_Nw.use (A := args) rfl (C.cast e))
      cases Option.some.inj (g3.symm.trans hcl)
      cases Option.some.inj (g4.symm.trans f4)
      exact g5
  obtain ⟨kcomp, hkcomp, -⟩ := Vm.findClass_spec f4
  refine W.aast C.1 C.2.1 q1 (fun q => by intro h; cases h) (fun q => by cases q) f2 f3 rfl hkcomp ⟨fun q => ix_in h0 h1 q2 (Or.inl q), ?_⟩ w1 (fun q => by rw [w3]; intro h; cases h) (by rw [w2]; exact hkC) hasg rfl rfl hd fun H1 g1 g2 g3 => ?_
  · rw [arrV_size]
    exact Nat.lt_of_not_le fun q => ix_in h0 h1 q2 (Or.inr q)
  · rw [i_nat ⟨by omega, by omega⟩] at g1 ⊢
    exact kk H1 _ (hR.ast ht hk g2 g3 g1 (setQ_v (AT_ref ht)) rfl rfl rfl (fun _ _ => ⟨rfl, rfl⟩) setQ_o) ((hR.2.2.2.2 a).2.2.2.1 (by omega) (by omega))
theorem tw_aastN {t a n : Nat} {E : String} {i : Int} (hd : decode (mC mi) pc = .ok (.aastore, 1)) (ht : AT[t]? = some (.object E)) (hk : gK G a = 100 + t) (hn : gL G a = n) (h0 : 0 ≤ i) (h1 : i < n) (k : TW Z mi d (pc + 1) lv st (setQ G a i.toNat none) Q) : TW Z mi d pc lv (tR none :: tI i :: tR (some a) :: st) G Q := by
  refine TW.stepH (G1 := setQ G a i.toNat none) rfl rfl (fun p l e R s m args below meth c H locs cells slots Qf C hR ls hl kk => ?_) k
  obtain ⟨q1, q2⟩ := hR.arr ht (Or.inl hk)
  have htl : t < 11 := (List.getElem?_eq_some_iff.mp ht).1
  subst hn
  refine va_WaastN C.1 C.2.1 q1 ((C.arr ht).1 _ _) (fun q => by cases q) (by rw [arrV_size]; exact ix_in h0 h1 q2) rfl rfl hd fun H1 g1 g2 g3 => ?_
  rw [i_nat ⟨by omega, by omega⟩] at g1 ⊢
  exact kk H1 _ (hR.ast ht hk g2 g3 g1 (setQ_v (AT_ref ht)) rfl rfl rfl (fun _ _ => ⟨rfl, rfl⟩) setQ_o) ((hR.2.2.2.2 a).2.2.2.1 (by omega) (by omega))
-- new cells
theorem up1_ne {α : Type} {F : Nat → α} {i : Nat} {v : α} {j : Nat} (h : j ≠ i) : up1 F i v j = F j := by unfold up1; rw [if_neg h]
theorem up1_at {α : Type} {F : Nat → α} {i : Nat} {v : α} : up1 F i v i = v := by unfold up1; rw [if_pos rfl]
theorem RelH.new {H H1 : Heap} (h : RelH Z G H) {k n r N : Nat} (hz : H1.size = H.size + 1) (ho : ∀ q, q < H.size → H1[q]? = H[q]?) (hc : CellOK Z (newG G k n r N) (gn G) H1) : RelH Z (newG G k n r N) H1 := by
  obtain ⟨r1, r2, r3, r4, r5⟩ := h
  refine ⟨by rw [hz, r1]; rfl, Nat.le_succ_of_le r2, fun q hq => ?_, fun b hb => ?_, fun b => ?_⟩
  · rw [ho q (by omega)]; exact r3 q hq
  · have hb' : gn G + 1 ≤ b := hb
    obtain ⟨k1, k2, k3⟩ := r4 b (by omega)
    refine ⟨?_, k2, k3⟩
    show up1 (gK G) (gn G) k b = 0
    rw [up1_ne (by omega)]
    exact k1
  · by_cases e : b = gn G
    · subst e; exact hc
    · by_cases hb : b < gn G
      · refine (r5 b).congr (ho b (by omega)) ?_ ?_ (fun _ => ⟨rfl, rfl⟩) (fun _ => ⟨rfl, rfl⟩)
        · show up1 (gK G) (gn G) k b = _
          rw [up1_ne e]
        · show up1 (gL G) (gn G) n b = _
          rw [up1_ne e]
      · obtain ⟨k1, -, -⟩ := r4 b (by omega)
        have k1' : gK (newG G k n r N) b = 0 := by
          show up1 (gK G) (gn G) k b = 0
          rw [up1_ne e]; exact k1
        refine ⟨fun c r' hc' hk' => ?_, fun t ty ht hk' => ?_, fun c nm hc' hk' => ?_, fun hk' => absurd k1' hk', by rw [k1']; exact fun z => absurd rfl z⟩ <;> (rw [k1'] at hk'; omega)
/-- a fresh object of the class number c, its fields as they are born; rg: its ghost region -/
theorem tw_new {idx c : Nat} {r : vw_C} (rg : Nat) (hd : decode (mC mi) pc = .ok (.new idx, 3)) (hc : CL[c]? = some r) (hcl : Cond.classLink (mN mi).cls idx r.1 ∈ lw_all) (hins : Cond.instantiable r.1 r.2.2 ∈ lw_all) (hini : Cond.initialized r.1 ∈ lw_all)
    (hfl : (FL c).all (fun f => decide ((FT[f]?.bind (fun q => parseFieldDescriptor q.2.2.1)).map defaultValue = some (match fy f with | 0 => tI 0 | 1 => tR none | _ => .float 0))) = true)
    (k : TW Z mi d (pc + 3) lv (tR (some (gn G)) :: st) (newG G (c + 1) 0 rg r.2.2) Q) : TW Z mi d pc lv st G Q := by
  refine TW.stepN (G1 := newG G (c + 1) 0 rg r.2.2) (N := r.2.2) rfl rfl (fun p l e R s m args below meth c0 H locs cells slots Qf C hR hc1 hs1 ls hl kk => ?_) k
  have hKn := C.kn hc
  have hts : ∀ w ∈ lw_all, w.before args s = true := fun w h => C.wd h args
  refine W.newcK (n := r.2.2) C.1 C.2.1 C.own (C.wd hcl args) (C.wd hins args) (C.wd hini args) rfl hd hc1 hs1 hKn.2.1 rfl fun H1 kC hkC g1 g2 g3 => ?_
  rw [hR.1]
  refine kk H1 (hR.new g2 g3 ?_)
  obtain ⟨ty, hty⟩ := CL_ty r (List.mem_of_getElem? hc)
  have hb := u_born ty hts (CL_in r (List.mem_of_getElem? hc)) hKn hkC g1 hty
  rw [hR.1] at hb
  obtain ⟨cell, b1, b2, b3, b4⟩ := hb
  have hkk : gK (newG G (c + 1) 0 rg r.2.2) (gn G) = c + 1 := up1_at
  have hcb := CL_lt hc
  refine ⟨fun c' r' hc' hk' => ?_, fun t ty ht hk' => ?_, fun c' nm hc' hk' => ?_, fun _ _ => hR.2.1, fun _ _ ce hce => by rw [← hR.1, g1] at hce; cases hce; exact ⟨rfl, rfl⟩⟩
  · rw [hkk] at hk'
    have hcc : c' = c := by have := CL_lt hc'; omega
    subst hcc
    refine ⟨cell, b1, b2, b3, fun j f hj => ?_⟩
    obtain ⟨hjl, hft⟩ := FT_ok hc hj
    rw [b4 j hjl]
    have h1 := of_decide_eq_true (List.all_eq_true.mp hfl f (List.mem_of_getElem? hj))
    rw [hft] at h1
    simp only [Option.bind_some, hty j hjl, Option.map_some, Option.some.injEq] at h1
    have h0 := (hR.2.2.2.1 (gn G) (Nat.le_refl _)).2.1 f
    show some (defaultValue (ty j)) = some (fval f (newG G (c' + 1) 0 rg r.2.2) (gn G))
    rw [h1]
    unfold fval
    show _ = some (match fy f with | 0 => tI (fI G f (gn G)) | 1 => tR (fR G f (gn G)) | _ => .float (UInt32.ofNat (fI G f (gn G)).toNat))
    rw [h0.1, h0.2]
    rcases fy f with _ | _ | _ <;> rfl
  · rw [hkk] at hk'
    have : t < 11 := (List.getElem?_eq_some_iff.mp ht).1
    omega
  · rw [hkk] at hk'
    omega
theorem RelH.newarr {H H1 : Heap} (h : RelH Z G H) {t n rg : Nat} {ty : FieldType} (ht : AT[t]? = some ty) (hn : n < 2 ^ 31) (hz : H1.size = H.size + 1) (ho : ∀ q, q < H.size → H1[q]? = H[q]?) (hd : aval t G (gn G) = fun _ => defaultValue ty) (h1 : H1[gn G]? = some (arrV (zA Z t) n (fun _ => defaultValue ty))) : RelH Z (newG G (100 + t) n rg n) H1 := by
  have htl : t < 11 := (List.getElem?_eq_some_iff.mp ht).1
  have hkk : gK (newG G (100 + t) n rg n) (gn G) = 100 + t := up1_at
  have hll : gL (newG G (100 + t) n rg n) (gn G) = n := up1_at
  refine h.new hz ho ⟨fun c' r' hc' hk' => ?_, fun t' ty' ht' hk' => ?_, fun c' nm hc' hk' => ?_, fun _ _ => h.2.1, by rw [hkk]; exact MonF.big (by omega)⟩
  · rw [hkk] at hk'
    have := CL_lt hc'
    omega
  · rw [hkk] at hk'
    have : t' = t := by have := (List.getElem?_eq_some_iff.mp ht').1; have : AT.length = 11 := rfl; omega
    subst this
    rw [hll, h1, ← hd]
    exact ⟨rfl, hn⟩
  · rw [hkk] at hk'
    have : c' < 3 := (List.getElem?_eq_some_iff.mp hc').1
    omega
theorem va_RA_prim {U : State} {cA cB : ClassId} {ty : FieldType} (hp : ty.isReference = false) (h : va_RA U cA ty) (hB : U.vm.findClass ("[" ++ ty.toString) = some cB) : cB = cA := by
  cases ty with
  | object C => cases hp
  | array t => cases hp
  | _ => exact Option.some.inj (hB.symm.trans h)
theorem tw_newa {t n : Nat} {atype : ArrayType} {x : Int} (rg : Nat) (hd : decode (mC mi) pc = .ok (.newarray atype, 2)) (ht : AT[t]? = some (newarray.typeOf atype)) (hw : Cond.arrayClass (newarray.typeOf atype) ∈ lw_all) (hp : (newarray.typeOf atype).isReference = false) (hx : x = (n : Int)) (hn : n * 8 ≤ 536870912) (hcb : componentBytes (newarray.typeOf atype) ≤ 8)
    (hdv : (match ay t with | 0 => tI 0 | 1 => tR none | _ => tL 0) = defaultValue (newarray.typeOf atype))
    (k : TW Z mi d (pc + 2) lv (tR (some (gn G)) :: st) (newG G (100 + t) n rg n) Q) : TW Z mi d pc lv (tI x :: st) G Q := by
  refine TW.stepN (G1 := newG G (100 + t) n rg n) (N := n) rfl rfl (fun p l e R s m args below meth c H locs cells slots Qf C hR hc1 hs1 ls hl kk => ?_) k
  have hr : inR x := ⟨by omega, by omega⟩
  subst hx
  have harr : (Cond.arrayClass (newarray.typeOf atype)).before args s = true := C.wd hw args
  refine W.newa (atype := atype) C.1 C.2.1 harr rfl hd rfl (by rw [i_zero, i_lt hr (by decide)]; omega) (by rw [i_nat hr]; exact Nat.le_trans (Nat.mul_le_mul_left _ hcb) hn) hc1 (by rw [i_nat hr]; exact hs1) fun cA kA comp f1 f2 f3 => ?_
  rw [i_nat hr, hR.1]
  have hz : (H.push { cls := cA, slots := Array.replicate ((n : Int).toNat) (defaultValue (newarray.typeOf atype)), vm := .none }).size = H.size + 1 := by rw [Array.size_push]
  have hcA : cA = zA Z t := va_RA_prim hp (C.arr ht).2 f1
  refine kk _ (hR.newarr ht (by omega) hz (fun q hq => by rw [Array.getElem?_push, if_neg (Nat.ne_of_lt hq)]) ?_ ?_)
  · funext i
    have h0 := (hR.2.2.2.1 (gn G) (Nat.le_refl _)).2.2 i
    unfold aval
    rw [h0.1, h0.2]
    exact hdv
  · rw [← hR.1, Array.getElem?_push_size, arrV_new, hcA]
    rfl
theorem tw_anew {idx t n : Nat} {C : String} {x : Int} (rg : Nat) (hd : decode (mC mi) pc = .ok (.anewarray idx, 3)) (ht : AT[t]? = some (.object C)) (hcl : Cond.classLink (mN mi).cls idx C ∈ lw_all) (hov : Cond.arrayOver (.object C) ∈ lw_tbl) (hx : x = (n : Int)) (hn : n * 8 ≤ 536870912)
    (k : TW Z mi d (pc + 3) lv (tR (some (gn G)) :: st) (newG G (100 + t) n rg n) Q) : TW Z mi d pc lv (tI x :: st) G Q := by
  refine TW.stepN (G1 := newG G (100 + t) n rg n) (N := n) rfl rfl (fun p l e R s m args below meth c H locs cells slots Qf C hR hc1 hs1 ls hl kk => ?_) k
  have hr : inR x := ⟨by omega, by omega⟩
  subst hx
  refine W.anew C.1 C.2.1 C.own (C.wd hcl args) (va_AO.use (va_AO.moved C.warm.alike (va_AO.of (C.zok.1 _ hov)))) rfl hd rfl (by rw [i_zero, i_lt hr (by decide)]; omega) (by rw [i_nat hr]; omega) hc1 (by rw [i_nat hr]; exact hs1) fun cA kA comp f1 f2 f3 f4 => ?_
  rw [i_nat hr, hR.1]
  have hz : (H.push { cls := cA, slots := Array.replicate ((n : Int).toNat) .null, vm := .none }).size = H.size + 1 := by rw [Array.size_push]
  have hcA : cA = zA Z t := by
    obtain ⟨-, kA', comp', g2, g3, g4, g5⟩ := C.arr ht
    exact Option.some.inj (f1.symm.trans g5)
  refine kk _ (hR.newarr ht (by omega) hz (fun q hq => by rw [Array.getElem?_push, if_neg (Nat.ne_of_lt hq)]) ?_ ?_)
  · funext i
    have h0 := (hR.2.2.2.1 (gn G) (Nat.le_refl _)).2.2 i
    rw [aval_R ht, h0.2]
    rfl
  · rw [← hR.1, Array.getElem?_push_size, arrV_new, hcA]
    rfl
-- casts
theorem tw_castN {idx : Nat} (hd : decode (mC mi) pc = .ok (.checkcast idx, 3)) (k : TW Z mi d (pc + 3) lv (tR none :: st) G Q) : TW Z mi d pc lv (tR none :: st) G Q :=
  TW.step0 (fun p l e R s m args below meth c H locs cells slots Qf C ls hl kk => lv_castN C.1 C.2.1 hd kk) k
def KE' (k : Nat) (E : String) : Prop := KE k E
theorem tw_cast {idx a : Nat} {E : String} (hd : decode (mC mi) pc = .ok (.checkcast idx, 3)) (hcl : Cond.classLink (mN mi).cls idx E ∈ lw_all) (hE : KE (gK G a) E) (k : TW Z mi d (pc + 3) lv (tR (some a) :: st) G Q) : TW Z mi d pc lv (tR (some a) :: st) G Q := by
  refine TW.stepR (fun p l e R s m args below meth c H locs cells slots Qf C hR ls hl kk => ?_) k
  obtain ⟨cv, r, hkv, hcv, hE⟩ := hE
  obtain ⟨cell, w1, w2, w3, -⟩ := hR.obj hcv hkv
  have hcell : ∃ cell : Cell, H[a]? = some cell ∧ cell.vm.isStatics = false ∧ s.vm.findClass r.1 = some cell.cls := ⟨cell, w1, by rw [w3]; rfl, by rw [w2]; exact C.cls hcv⟩
  rcases hE with e | e
  · subst e
    exact va_castS C.1 C.2.1 C.own (C.wd hcl args) (C.kn hcv).2 hcell hd kk
  · exact va_castY C.1 C.2.1 C.own (C.wd hcl args) (C.cast e) hcell hd kk
theorem tw_inst {idx a : Nat} {E : String} (hd : decode (mC mi) pc = .ok (.instanceof idx, 3)) (hcl : Cond.classLink (mN mi).cls idx E ∈ lw_all) (hE : KE (gK G a) E) (k : TW Z mi d (pc + 3) lv (tI 1 :: st) G Q) : TW Z mi d pc lv (tR (some a) :: st) G Q := by
  refine TW.stepR (fun p l e R s m args below meth c H locs cells slots Qf C hR ls hl kk => ?_) k
  obtain ⟨cv, r, hkv, hcv, hE⟩ := hE
  obtain ⟨cell, w1, w2, w3, -⟩ := hR.obj hcv hkv
  have hcell : ∃ cell : Cell, H[a]? = some cell ∧ cell.vm.isStatics = false ∧ s.vm.findClass r.1 = some cell.cls := ⟨cell, w1, by rw [w3]; rfl, by rw [w2]; exact C.cls hcv⟩
  rcases hE with e | e
  · subst e
    exact va_instS C.1 C.2.1 C.own (C.wd hcl args) (C.kn hcv).2 hcell hd kk
  · exact va_instY C.1 C.2.1 C.own (C.wd hcl args) (C.cast e) hcell hd kk
theorem tw_instN {idx : Nat} (hd : decode (mC mi) pc = .ok (.instanceof idx, 3)) (k : TW Z mi d (pc + 3) lv (tI 0 :: st) G Q) : TW Z mi d pc lv (tR none :: st) G Q :=
  TW.step0 (fun p l e R s m args below meth c H locs cells slots Qf C ls hl kk => lv_instN C.1 C.2.1 hd kk) k
/-- an object of kind k is of none of E's -/
def KN (k : Nat) (E : String) : Prop := ∃ (c : Nat) (r : vw_C), (k = c + 1 ∨ k = c + 501) ∧ CL[c]? = some r ∧ (r.1, E) ∈ NCL
theorem tw_instF {idx a : Nat} {E : String} (hd : decode (mC mi) pc = .ok (.instanceof idx, 3)) (hcl : Cond.classLink (mN mi).cls idx E ∈ lw_all) (hE : KN (gK G a) E) (k : TW Z mi d (pc + 3) lv (tI 0 :: st) G Q) : TW Z mi d pc lv (tR (some a) :: st) G Q := by
  refine TW.stepR (fun p l e R s m args below meth c H locs cells slots Qf C hR ls hl kk => ?_) k
  obtain ⟨cv, r, hkv, hcv, hE⟩ := hE
  obtain ⟨cell, w1, w2, w3, -⟩ := hR.obj hcv hkv
  have hcell : ∃ cell : Cell, H[a]? = some cell ∧ cell.vm.isStatics = false ∧ s.vm.findClass r.1 = some cell.cls := ⟨cell, w1, by rw [w3]; rfl, by rw [w2]; exact C.cls hcv⟩
  exact va_instNo C.1 C.2.1 C.own (C.wd hcl args) ((C.zok.2.2.2.1 _ hE).moved C.warm.alike) hcell hd kk
/-- a String constant -/
theorem tw_ldcS {idx n : Nat} {tx : String} (hd : decode (mC mi) pc = .ok (.ldc idx, 2)) (hw : ((mN mi).cls, idx, tx, n) ∈ STL) (k : TW Z mi d (pc + 2) lv (tR (some (zE Z n)) :: st) G Q) : TW Z mi d pc lv st G Q :=
  TW.step0 (fun p l e R s m args below meth c H locs cells slots Qf C ls hl kk => va_ldcS C.1 C.2.1 C.own ((C.zok.2.2.2.2.1 _ hw).warm C.warm) hd kk) k
theorem tw_gets {idx : Nat} {q : String × String × String × (Int ⊕ Nat)} (hd : decode (mC mi) pc = .ok (.getstatic idx, 3)) (hq : q ∈ SVL) (hlk : Cond.fieldLink (mN mi).cls idx q.1 q.2.1 q.2.2.1 ∈ lw_all) (k : TW Z mi d (pc + 3) lv (zVal Z q.2.2.2 :: st) G Q) : TW Z mi d pc lv st G Q := by
  refine TW.stepR (fun p l e R s m args below meth c H locs cells slots Qf C hR ls hl kk => ?_) k
  obtain ⟨cf, kf, fi, f, a, cell, h1, h2, h3, h4, h5, h6, h7, h8⟩ := va_Z.moved C.warm.alike (C.zok.2.2.2.2.2 q hq)
  have h8' : a < zz Z := Nat.lt_of_not_le h8
  exact W.gets C.1 C.2.1 C.own (C.wd hlk args) h1 h2 h3 h4 (by rw [hR.2.2.1 a h8']; exact h5) (fun e => by rw [e] at h6; cases h6) h7 rfl hd kk
end THEAP
