/-! THE TOY CALCULUS, 9: copies, clones, exceptions of the JDK, statics that are only passed on -/
/-- many writes at once -/
theorem TW.stepHL {Z : ZT} {mi : MI} {d pc pc' : Nat} {lv : List (Option Value)} {st st' : List Value} {G G1 : GH} {Q : TR → GH → Prop} (hn : gn G1 = gn G) (hs : gs G1 = gs G)
    (h : ∀ p l e R s m args below meth c H locs cells slots Qf, TCx Z mi p l s m meth c → RelH Z G H → d ≤ R.frames ∧ 96 * d ≤ R.locals → ∀ ls, lvh ls (mL mi) lv →
      (∀ H1 L, RelH Z G1 H1 → (∀ z ∈ L, zz Z ≤ z.base) → W p l e R s m args below meth c H1 (locs ++ L) cells slots Qf (F0 m pc' ls st')) → W p l e R s m args below meth c H locs cells slots Qf (F0 m pc ls st))
    (k : TW Z mi d pc' lv st' G1 Q) : TW Z mi d pc lv st G Q := by
  obtain ⟨r, G', h1, h2, h3⟩ := k
  rw [hn, hs] at h2
  refine ⟨r, G', h1, h2, fun p l e R s m args below meth c H locs cells slots mc ms B ls hl => h p l e R s m args below meth c H locs cells slots _ B.1 B.2.1 B.2.2.2.1 ls hl (fun H1 L r1 l1 => ?_)⟩
  obtain ⟨b1, b2, b3, b4, b5, b6, b7, b8⟩ := B
  refine h3 p l e R s m args below meth c H1 (locs ++ L) cells slots mc ms ⟨b1, r1, fun z hz => ?_, b4, by rw [hn]; exact b5, by rw [hs]; exact b6, b7, b8⟩ ls hl
  rcases List.mem_append.mp hz with h | h
  · exact b3 z h
  · exact l1 z h
def cpyG (G : GH) (s sp a dp n : Nat) : GH := (G.1, G.2.1, G.2.2.1, ((fun b i => if b = a ∧ dp ≤ i ∧ i < dp + n then aI G s (sp + (i - dp)) else aI G b i), (fun b i => if b = a ∧ dp ≤ i ∧ i < dp + n then aR G s (sp + (i - dp)) else aR G b i)))
section TR4
variable {Z : ZT} {mi : MI} {d pc : Nat} {lv : List (Option Value)} {st : List Value} {G : GH} {Q : TR → GH → Prop}
theorem RelH.arrUpd {H H1 : Heap} (h : RelH Z G H) {G1 : GH} {t a : Nat} {ty : FieldType} (ht : AT[t]? = some ty) (hk : gK G a = 100 + t) (hz : H1.size = H.size) (ho : ∀ q, q ≠ a → H1[q]? = H[q]?)
    (h1 : H1[a]? = some (arrV (zA Z t) (gL G a) (aval t G1 a)))
    (e1 : gn G1 = gn G) (e3 : gK G1 = gK G) (e4 : gL G1 = gL G) (hf : ∀ f b, fI G1 f b = fI G f b ∧ fR G1 f b = fR G f b) (hA : ∀ b j, b ≠ a → aI G1 b j = aI G b j ∧ aR G1 b j = aR G b j) : RelH Z G1 H1 := by
  have htl : t < 11 := (List.getElem?_eq_some_iff.mp ht).1
  have hlt : a < gn G := h.lt (by omega)
  have ha : zz Z ≤ a := (h.2.2.2.2 a).2.2.2.1 (by omega) (by omega)
  refine h.upd hz ho hlt ha e1 e3 e4 (fun f b _ => hf f b) hA ?_
  refine ⟨fun c' r' hc' hk' => ?_, fun t' ty' ht' hk' => ?_, fun c' nm hc' hk' => ?_, fun _ _ => ha, by rw [e3, hk]; exact MonF.big (by omega)⟩
  · rw [e3, hk] at hk'
    have := CL_lt hc'
    omega
  · rw [e3, hk] at hk'
    have : t' = t := by have := (List.getElem?_eq_some_iff.mp ht').1; have : AT.length = 11 := rfl; omega
    subst this
    rw [h1, e4]
    exact ⟨rfl, (h.arr ht (Or.inl hk)).2⟩
  · rw [e3, hk] at hk'
    have : c' < 3 := (List.getElem?_eq_some_iff.mp hc').1
    omega
theorem i_nn {x : Int} (hx : inR x) (h : 0 ≤ x) : ¬ Int32.ofInt x < 0 := by
  intro q
  have := (i_lt hx (y := 0) (by decide)).mp (by simpa using q)
  omega
theorem AT_kind {t : Nat} {ty : FieldType} (h : AT[t]? = some ty) : (t < 5 ∧ ¬ ay t = 1 ∧ refKind ty = false) ∨ (5 ≤ t ∧ ay t = 1 ∧ ∃ E, ty = .object E) := by
  have htl : t < 11 := (List.getElem?_eq_some_iff.mp h).1
  have : t = 0 ∨ t = 1 ∨ t = 2 ∨ t = 3 ∨ t = 4 ∨ t = 5 ∨ t = 6 ∨ t = 7 ∨ t = 8 ∨ t = 9 ∨ t = 10 := by omega
  rcases this with e | e | e | e | e | e | e | e | e | e | e <;> subst e <;> cases h <;> first | exact Or.inl ⟨by decide, by decide, rfl⟩ | exact Or.inr ⟨by decide, by decide, _, rfl⟩
theorem tw_acpy {t idx a0 a : Nat} {ty : FieldType} {sp dp n : Int} (hd : decode (mC mi) pc = .ok (.invokestatic idx, 3)) (hl : Cond.methodLink (mN mi).cls idx arraycopyName ∈ lw_all) (hnat : Cond.native arraycopyName ∈ lw_all) (hst : Cond.static arraycopyName ∈ lw_all) (hini : Cond.initialized "java/lang/System" ∈ lw_all)
    (ht : AT[t]? = some ty) (hk0 : gK G a0 = 100 + t ∨ gK G a0 = 600 + t) (hk : gK G a = 100 + t) (h1 : 0 ≤ sp) (h2 : 0 ≤ dp) (h3 : 0 ≤ n) (h4 : sp + n ≤ gL G a0) (h5 : dp + n ≤ gL G a)
    (hv : ∀ i : Nat, sp ≤ i → i < sp + n → t = 0 ∨ (t = 1 ∧ -128 ≤ aI G a0 i ∧ aI G a0 i ≤ 127) ∨ ∃ E, ty = .object E ∧ ∀ v, aR G a0 i = some v → KE (gK G v) E)
    (hsl : st.length ≤ 12) (k : TW Z mi (d + 1) (pc + 3) lv st (cpyG G a0 sp.toNat a dp.toNat n.toNat) Q) : TW Z mi (d + 1) pc lv (tI n :: tI dp :: tR (some a) :: tI sp :: tR (some a0) :: st) G Q := by
  refine TW.stepHL (G1 := cpyG G a0 sp.toNat a dp.toNat n.toNat) rfl rfl (fun p l e R s m args below meth c H locs cells slots Qf C hR hroom ls hlv kk => ?_) k
  obtain ⟨q0, l0⟩ := hR.arr ht hk0
  obtain ⟨q1, l1⟩ := hR.arr ht (Or.inl hk)
  have rs : inR sp := ⟨by omega, by omega⟩
  have rd : inR dp := ⟨by omega, by omega⟩
  have rn : inR n := ⟨by omega, by omega⟩
  intro T hT X
  obtain ⟨-, k0, hk0', cm0, hkk0⟩ := (C.arr ht).1 (gL G a) (aval t G a)
  have hml : c.maxLocals = ls.size := C.ml.trans hlv.1.symm
  have hstk := cat_sum st
  have hnw : nativeFrameWords "java/lang/System" "arraycopy" 5 ≤ 40 := by decide
  obtain ⟨vm', X', step⟩ := X.arraycopy C.1 C.own (C.wd hl args) (C.wd hnat args) (C.wd hst args) (C.wd hini args) (src := a0) (dst := a) (cs := arrV (zA Z t) (gL G a0) (aval t G a0)) (cd := arrV (zA Z t) (gL G a) (aval t G a)) (srcPos := Int32.ofInt sp) (destPos := Int32.ofInt dp) (n := Int32.ofInt n) (by rw [hT]; exact q0) (by rw [hT]; exact q1)
    (fun _ h => by cases h) (fun _ h => by cases h) (fun h => by cases h) (fun h => by cases h) hk0' hk0' hkk0 hkk0 (by simp) (i_nn rs h1) (i_nn rd h2) (i_nn rn h3)
    (by rw [i_to rs, i_to rn, arrV_size]; omega) (by rw [i_to rd, i_to rn, arrV_size]; omega)
    (fun vm₁ hal i hi => by
      rw [i_nat rn] at hi
      have e : (arrV (zA Z t) (gL G a0) (aval t G a0)).slots.getD ((Int32.ofInt sp).toNatClampNeg + i) .null = aval t G a0 (sp.toNat + i) := by
        rw [i_nat rs, Array.getD_eq_getD_getElem?, arrV_read _ _ (by omega)]
        rfl
      rw [e]
      rcases hv (sp.toNat + i) (by omega) (by omega) with e0 | ⟨e0, e1, e2⟩ | ⟨E, e0, e1⟩
      · subst e0
        cases ht
        exact ⟨rfl, trivial⟩
      · subst e0
        cases ht
        refine ⟨?_, trivial⟩
        show (decide (-128 ≤ Int32.ofInt (aI G a0 (sp.toNat + i))) && decide (Int32.ofInt (aI G a0 (sp.toNat + i)) ≤ 127)) = true
        rw [Bool.and_eq_true, decide_eq_true_eq, decide_eq_true_eq, Int32.le_iff_toInt_le, Int32.le_iff_toInt_le, i_to ⟨by omega, by omega⟩]
        exact ⟨e1, e2⟩
      · subst e0
        rcases AT_kind ht with ⟨-, -, h⟩ | ⟨-, hay, -⟩
        · cases h
        have ea : aval t G a0 (sp.toNat + i) = tR (aR G a0 (sp.toNat + i)) := by unfold aval; rw [hay]; rfl
        rw [ea]
        cases hy : aR G a0 (sp.toNat + i) with
        | none => exact ⟨rfl, trivial⟩
        | some y =>
          obtain ⟨cv, r, hkv, hcv, hE⟩ := e1 y hy
          obtain ⟨cell, w1, w2, w3, -⟩ := hR.obj hcv hkv
          obtain ⟨hAr, kA, comp, f2, f3, f4, -⟩ := C.arr ht
          cases Option.some.inj (f2.symm.trans hk0')
          cases f3.symm.trans hkk0
          obtain ⟨hcl, kC, hkC, -⟩ := (C.kn hcv).2
          have hasg : s.vm.assignable cell.cls cm0 = true := by
            rw [w2]
            rcases hE with e | e
            · have : cm0 = zC Z cv := by rw [← e] at f4; exact Option.some.inj (f4.symm.trans hcl)
              rw [this]
              exact va_assign (C.kn hcv).2
            · obtain ⟨c3, c4, g3, g4, g5⟩ := Cond.castable_spec (va_Nw.use (A := args) rfl (C.cast e))
              cases Option.some.inj (g3.symm.trans hcl)
              cases Option.some.inj (g4.symm.trans f4)
              exact g5
          obtain ⟨kE, hkE, -⟩ := Vm.findClass_spec f4
          rw [← w2] at hkC
          obtain ⟨kC', hkC', -⟩ := hal.2.2 _ _ hkC
          obtain ⟨kE', hkE', -⟩ := hal.2.2 _ _ hkE
          refine ⟨rfl, cell, (show T.heap[y]? = some cell by rw [hT]; exact w1), (fun q h => by rw [w3] at h; cases h), ⟨kC', hkC'⟩, ⟨kE', hkE'⟩, ?_⟩
          show vm₁.assignable _ _ = true
          rw [hal.assignable]
          exact hasg)
    (g := F0 m pc ls (tI n :: tI dp :: tR (some a) :: tI sp :: tR (some a0) :: st)) rfl hml.symm (rest := st) rfl (by rw [C.2.1]; exact hd) (by omega) (by show 2 * 0 + _ + _ ≤ _; omega)
  have e1 : copied (arrV (zA Z t) (gL G a0) (aval t G a0)) (arrV (zA Z t) (gL G a) (aval t G a)) (Int32.ofInt sp) (Int32.ofInt dp) (Int32.ofInt n) = arrV (zA Z t) (gL G a) (aval t (cpyG G a0 sp.toNat a dp.toNat n.toNat) a) := by
    show (arrV (zA Z t) (gL G a) (fun j => id (aval t G a j))).storeRun _ ((arrV (zA Z t) (gL G a0) (fun j => id (aval t G a0 j))).stretch _ _) = _
    rw [i_nat rs, i_nat rd, i_nat rn, va_copied id (zA Z t) (zA Z t) (aval t G a0) (aval t G a) (by omega)]
    congr 1
    funext j
    unfold va_cpy aval cpyG
    by_cases hj : dp.toNat ≤ j ∧ j < dp.toNat + n.toNat
    · rw [if_pos hj]
      split <;> first | exact congrArg tI (if_pos ⟨rfl, hj⟩).symm | exact congrArg tR (if_pos ⟨rfl, hj⟩).symm | exact congrArg tL (if_pos ⟨rfl, hj⟩).symm
    · rw [if_neg hj]
      split <;> first | exact congrArg tI (if_neg (fun q => hj q.2)).symm | exact congrArg tR (if_neg (fun q => hj q.2)).symm | exact congrArg tL (if_neg (fun q => hj q.2)).symm
  rw [e1] at X' step
  have hl : a < H.size := (Array.getElem?_eq_some_iff.mp q1).1
  have hheap : ((T.setVm vm').setCell a (arrV (zA Z t) (gL G a) (aval t (cpyG G a0 sp.toNat a dp.toNat n.toNat) a))).heap = H.setIfInBounds a (arrV (zA Z t) (gL G a) (aval t (cpyG G a0 sp.toNat a dp.toNat n.toNat) a)) := by rw [← hT]; rfl
  obtain ⟨t9, a1, b1⟩ := kk _ _ (hR.arrUpd ht hk (by simp) (fun q hq => by simp [Array.getElem?_setIfInBounds, Ne.symm hq]) (show (H.setIfInBounds a _)[a]? = some _ by simp [Array.getElem?_setIfInBounds, hl]) rfl rfl rfl (fun _ _ => ⟨rfl, rfl⟩) (fun b j hb => ⟨if_neg (fun h => hb h.1), if_neg (fun h => hb h.1)⟩)) (fun z hz => by
      obtain ⟨w, -, hw⟩ := List.mem_map.mp hz
      rw [← hw]
      exact (hR.2.2.2.2 a).2.2.2.1 (by have := (List.getElem?_eq_some_iff.mp ht).1; omega) (by have := (List.getElem?_eq_some_iff.mp ht).1; have : AT.length = 11 := rfl; omega)) _ hheap X'
  exact ⟨t9, step t9 a1, b1⟩
end TR4
