/-! THE TOY CALCULUS: 'new E()' of the JDK's exceptions, the object on the stack (printed by tools/rows5.py) -/
def wtOk (w : Cond) : Bool := match w with | .declares _ => true | .castable _ _ => true | _ => false
theorem TCx.wx {Z : ZT} {mi : MI} {p : Program} {l : Launch} {s s' : State} {m : MethodId} {meth : Method} {c : Code} (C : TCx Z mi p l s m meth c) {w : Cond} (h : w ∈ lw_tbl) (hk : wtOk w = true) (ho : w.onTables = true) (hvm : s.vm = s'.vm) {args : Array Value} : w.before args s' = true := by
  refine va_tabs (A := #[]) ho hvm ?_
  cases w <;> first | (exact (va_Nw.warmD C.warm (va_Nw.of rfl (C.zok.1 _ h)))) | (exact (va_Nw.warmC C.warm (va_Nw.of rfl (C.zok.1 _ h)))) | cases hk
theorem TCx.wy {Z : ZT} {mi : MI} {p : Program} {l : Launch} {s s' : State} {m : MethodId} {meth : Method} {c : Code} (C : TCx Z mi p l s m meth c) {w : Cond} (h : w ∈ lw_all) (ho : w.onTables = true) (hvm : s.vm = s'.vm) {args : Array Value} : w.before args s' = true :=
  va_tabs ho hvm (C.wd h #[])
section TEXC
variable {Z : ZT} {mi : MI} {d pc : Nat} {lv : List (Option Value)} {st : List Value} {G : GH} {Q : TR → GH → Prop}
variable {p : Program} {l : Launch} {s s' : State} {m : MethodId} {meth : Method} {c : Code}
/-- a static of the start's heap, at hand in every heap of ours -/
theorem TCx.zq (C : TCx Z mi p l s m meth c) (hvm : s.vm = s'.vm) (hR : RelH Z G s'.heap) {q : String × String × String × (Int ⊕ Nat)} (hq : q ∈ SVL) : va_Z q.1 q.2.1 q.2.2.1 (zVal Z q.2.2.2) (fun a => zz Z ≤ a) s' s'.heap := by
  obtain ⟨cf, kf, fi, f, a, cell, h1, h2, h3, h4, h5, h6, h7, h8⟩ := va_Z.moved (show (zS Z).vm.Alike s'.vm by rw [← hvm]; exact C.warm.alike) (C.zok.2.2.2.2.2 q hq)
  exact ⟨cf, kf, fi, f, a, cell, h1, h2, h3, h4, by rw [hR.2.2.1 a (Nat.lt_of_not_le h8)]; exact h5, h6, h7, h8⟩
/-- where a static of the start lies -/
theorem TCx.ls0 (C : TCx Z mi p l s m meth c) (hvm : s.vm = s'.vm) (hR : RelH Z G s'.heap) {K n dd : String} (h : Cond.laysStatic K n dd ∈ lw_tbl) {args : Array Value} : (Cond.laysStatic K n dd).before args s' = true := by
  obtain ⟨c0, k, i, f, a, cell, h1, h2, h3, h4, h5, h6, h7, h8, h9⟩ := Cond.laysStatic_spec (C.zok.1 _ h)
  have ha : a < zz Z := (Array.getElem?_eq_some_iff.mp h5).1
  have X : vx_L K n dd (fun a => zz Z ≤ a) (zS Z) s'.heap := ⟨c0, k, i, f, a, cell, h1, h2, h3, h4, by rw [hR.2.2.1 a ha]; exact h5, h6, h7, h8, h9, Nat.not_le.mpr ha⟩
  exact (vx_L.moved (show (zS Z).vm.Alike s'.vm by rw [← hvm]; exact C.warm.alike) X).word
theorem ex_thr (C : TCx Z mi p l s m meth c) (hvm : s.vm = s'.vm) {args : Array Value} (lU : (Cond.laysStatic Bundle.tN "UNASSIGNED_STACK" Bundle.steD).before args s' = true) (lN : (Cond.laysStatic Bundle.tN "SUPPRESSED_SENTINEL" Bundle.listD).before args s' = true) : ∀ w ∈ Bundle.throwableAtoms, w.before args s' = true :=
  vx_c (C.wy q174 rfl hvm) (vx_c (C.wy q676 rfl hvm) (vx_c (C.wy q685 rfl hvm) (vx_c (C.wy q709 rfl hvm) (vx_c (C.wy q712 rfl hvm) (vx_c (C.wy q714 rfl hvm) (vx_c (C.wy q677 rfl hvm) (vx_c (C.wy q678 rfl hvm) (vx_c (C.wy q209 rfl hvm) (vx_c (C.wy q210 rfl hvm) (vx_c (C.wy q679 rfl hvm) (vx_c (C.wy q684 rfl hvm) (vx_c (C.wy q710 rfl hvm) (vx_c (C.wy q923 rfl hvm) (vx_c (C.wy q666 rfl hvm) (vx_c (C.wy q924 rfl hvm) (vx_c (C.wy q668 rfl hvm) (vx_c (C.wy q925 rfl hvm) (vx_c (C.wy q670 rfl hvm) (vx_c (C.wy q680 rfl hvm) (vx_c (lU) (vx_c (C.wy q682 rfl hvm) (vx_c (lN) (vx_c (C.wy q672 rfl hvm) (vx_n))))))))))))))))))))))))
theorem ex_ch0 (C : TCx Z mi p l s m meth c) (hvm : s.vm = s'.vm) {args : Array Value} : ∀ w ∈ Bundle.chain0Atoms "java/lang/IllegalArgumentException" ["java/lang/RuntimeException", "java/lang/Exception"], w.before args s' = true :=
  List.forall_mem_append.mpr ⟨vx_c (C.wy q2451 rfl hvm) (vx_c (C.wy q2452 rfl hvm) (vx_c (C.wy q2453 rfl hvm) (vx_c (C.wy q2267 rfl hvm) (vx_c (C.wx q657 rfl rfl hvm) (vx_n))))), List.forall_mem_append.mpr ⟨vx_c (C.wy q2267 rfl hvm) (vx_c (C.wy q2268 rfl hvm) (vx_c (C.wy q2269 rfl hvm) (vx_c (C.wy q2270 rfl hvm) (vx_c (C.wx q659 rfl rfl hvm) (vx_n))))), vx_c (C.wy q2270 rfl hvm) (vx_c (C.wy q2271 rfl hvm) (vx_c (C.wy q2272 rfl hvm) (vx_c (C.wy q677 rfl hvm) (vx_c (C.wx q661 rfl rfl hvm) (vx_n)))))⟩⟩
theorem ex_all0 {ic : Nat} (C : TCx Z mi p l s m meth c) (hvm : s.vm = s'.vm) (hR : RelH Z G s'.heap) (hl0 : Cond.methodLink (mN mi).cls ic (Bundle.init0 "java/lang/IllegalArgumentException") ∈ lw_all) {args : Array Value} : ∀ w ∈ Bundle.ownAtoms0 (mN mi).cls ic "java/lang/IllegalArgumentException" ["java/lang/RuntimeException", "java/lang/Exception"], w.before args s' = true := by
  have zU := C.zq hvm hR (q := ("java/lang/Throwable", "UNASSIGNED_STACK", "[Ljava/lang/StackTraceElement;", .inr 106)) (List.mem_of_getElem? (i := 8) rfl)
  have zN := C.zq hvm hR (q := ("java/lang/Throwable", "SUPPRESSED_SENTINEL", "Ljava/util/List;", .inr 107)) (List.mem_of_getElem? (i := 9) rfl)
  have iU : (Cond.isRef (.static Bundle.tN "UNASSIGNED_STACK" Bundle.steD)).before args s' = true := vx_isRef zU rfl
  have iN : (Cond.isRef (.static Bundle.tN "SUPPRESSED_SENTINEL" Bundle.listD)).before args s' = true := vx_isRef zN rfl
  have lU : (Cond.laysStatic Bundle.tN "UNASSIGNED_STACK" Bundle.steD).before args s' = true := C.ls0 hvm hR q681
  have lN : (Cond.laysStatic Bundle.tN "SUPPRESSED_SENTINEL" Bundle.listD).before args s' = true := C.ls0 hvm hR q683
  have hl : (Cond.methodLink (mN mi).cls ic (Bundle.init0 "java/lang/IllegalArgumentException")).before args s' = true := C.wy hl0 rfl hvm
  exact List.forall_mem_append.mpr ⟨List.forall_mem_append.mpr ⟨ex_thr C hvm lU lN, ex_ch0 C hvm⟩, vx_c (hl) (vx_c (C.wy q655 rfl hvm) (vx_c (C.wx q656 rfl rfl hvm) (vx_c (C.wy q663 rfl hvm) (vx_c (C.wy q664 rfl hvm) (vx_c (C.wy q665 rfl hvm) (vx_c (C.wy q667 rfl hvm) (vx_c (C.wy q669 rfl hvm) (vx_c (C.wy q671 rfl hvm) (vx_c (iU) (vx_c (iN) (vx_c (C.wy q921 rfl hvm) (vx_c (C.wy q674 rfl hvm) (vx_c (C.wy q673 rfl hvm) (vx_n))))))))))))))⟩
theorem ex_ch1 (C : TCx Z mi p l s m meth c) (hvm : s.vm = s'.vm) {args : Array Value} : ∀ w ∈ Bundle.chain0Atoms "java/lang/IndexOutOfBoundsException" ["java/lang/RuntimeException", "java/lang/Exception"], w.before args s' = true :=
  List.forall_mem_append.mpr ⟨vx_c (C.wy q2484 rfl hvm) (vx_c (C.wy q2485 rfl hvm) (vx_c (C.wy q2486 rfl hvm) (vx_c (C.wy q2267 rfl hvm) (vx_c (C.wx q657 rfl rfl hvm) (vx_n))))), List.forall_mem_append.mpr ⟨vx_c (C.wy q2267 rfl hvm) (vx_c (C.wy q2268 rfl hvm) (vx_c (C.wy q2269 rfl hvm) (vx_c (C.wy q2270 rfl hvm) (vx_c (C.wx q659 rfl rfl hvm) (vx_n))))), vx_c (C.wy q2270 rfl hvm) (vx_c (C.wy q2271 rfl hvm) (vx_c (C.wy q2272 rfl hvm) (vx_c (C.wy q677 rfl hvm) (vx_c (C.wx q661 rfl rfl hvm) (vx_n)))))⟩⟩
theorem ex_all1 {ic : Nat} (C : TCx Z mi p l s m meth c) (hvm : s.vm = s'.vm) (hR : RelH Z G s'.heap) (hl0 : Cond.methodLink (mN mi).cls ic (Bundle.init0 "java/lang/IndexOutOfBoundsException") ∈ lw_all) {args : Array Value} : ∀ w ∈ Bundle.ownAtoms0 (mN mi).cls ic "java/lang/IndexOutOfBoundsException" ["java/lang/RuntimeException", "java/lang/Exception"], w.before args s' = true := by
  have zU := C.zq hvm hR (q := ("java/lang/Throwable", "UNASSIGNED_STACK", "[Ljava/lang/StackTraceElement;", .inr 106)) (List.mem_of_getElem? (i := 8) rfl)
  have zN := C.zq hvm hR (q := ("java/lang/Throwable", "SUPPRESSED_SENTINEL", "Ljava/util/List;", .inr 107)) (List.mem_of_getElem? (i := 9) rfl)
  have iU : (Cond.isRef (.static Bundle.tN "UNASSIGNED_STACK" Bundle.steD)).before args s' = true := vx_isRef zU rfl
  have iN : (Cond.isRef (.static Bundle.tN "SUPPRESSED_SENTINEL" Bundle.listD)).before args s' = true := vx_isRef zN rfl
  have lU : (Cond.laysStatic Bundle.tN "UNASSIGNED_STACK" Bundle.steD).before args s' = true := C.ls0 hvm hR q681
  have lN : (Cond.laysStatic Bundle.tN "SUPPRESSED_SENTINEL" Bundle.listD).before args s' = true := C.ls0 hvm hR q683
  have hl : (Cond.methodLink (mN mi).cls ic (Bundle.init0 "java/lang/IndexOutOfBoundsException")).before args s' = true := C.wy hl0 rfl hvm
  exact List.forall_mem_append.mpr ⟨List.forall_mem_append.mpr ⟨ex_thr C hvm lU lN, ex_ch1 C hvm⟩, vx_c (hl) (vx_c (C.wy q2475 rfl hvm) (vx_c (C.wx q2476 rfl rfl hvm) (vx_c (C.wy q2477 rfl hvm) (vx_c (C.wy q693 rfl hvm) (vx_c (C.wy q2478 rfl hvm) (vx_c (C.wy q2479 rfl hvm) (vx_c (C.wy q2480 rfl hvm) (vx_c (C.wy q2481 rfl hvm) (vx_c (iU) (vx_c (iN) (vx_c (C.wy q921 rfl hvm) (vx_c (C.wy q674 rfl hvm) (vx_c (C.wy q2482 rfl hvm) (vx_n))))))))))))))⟩
theorem ex_ch2 (C : TCx Z mi p l s m meth c) (hvm : s.vm = s'.vm) {args : Array Value} : ∀ w ∈ Bundle.chain0Atoms "java/lang/IllegalStateException" ["java/lang/RuntimeException", "java/lang/Exception"], w.before args s' = true :=
  List.forall_mem_append.mpr ⟨vx_c (C.wy q2529 rfl hvm) (vx_c (C.wy q2530 rfl hvm) (vx_c (C.wy q2531 rfl hvm) (vx_c (C.wy q2267 rfl hvm) (vx_c (C.wx q657 rfl rfl hvm) (vx_n))))), List.forall_mem_append.mpr ⟨vx_c (C.wy q2267 rfl hvm) (vx_c (C.wy q2268 rfl hvm) (vx_c (C.wy q2269 rfl hvm) (vx_c (C.wy q2270 rfl hvm) (vx_c (C.wx q659 rfl rfl hvm) (vx_n))))), vx_c (C.wy q2270 rfl hvm) (vx_c (C.wy q2271 rfl hvm) (vx_c (C.wy q2272 rfl hvm) (vx_c (C.wy q677 rfl hvm) (vx_c (C.wx q661 rfl rfl hvm) (vx_n)))))⟩⟩
theorem ex_all2 {ic : Nat} (C : TCx Z mi p l s m meth c) (hvm : s.vm = s'.vm) (hR : RelH Z G s'.heap) (hl0 : Cond.methodLink (mN mi).cls ic (Bundle.init0 "java/lang/IllegalStateException") ∈ lw_all) {args : Array Value} : ∀ w ∈ Bundle.ownAtoms0 (mN mi).cls ic "java/lang/IllegalStateException" ["java/lang/RuntimeException", "java/lang/Exception"], w.before args s' = true := by
  have zU := C.zq hvm hR (q := ("java/lang/Throwable", "UNASSIGNED_STACK", "[Ljava/lang/StackTraceElement;", .inr 106)) (List.mem_of_getElem? (i := 8) rfl)
  have zN := C.zq hvm hR (q := ("java/lang/Throwable", "SUPPRESSED_SENTINEL", "Ljava/util/List;", .inr 107)) (List.mem_of_getElem? (i := 9) rfl)
  have iU : (Cond.isRef (.static Bundle.tN "UNASSIGNED_STACK" Bundle.steD)).before args s' = true := vx_isRef zU rfl
  have iN : (Cond.isRef (.static Bundle.tN "SUPPRESSED_SENTINEL" Bundle.listD)).before args s' = true := vx_isRef zN rfl
  have lU : (Cond.laysStatic Bundle.tN "UNASSIGNED_STACK" Bundle.steD).before args s' = true := C.ls0 hvm hR q681
  have lN : (Cond.laysStatic Bundle.tN "SUPPRESSED_SENTINEL" Bundle.listD).before args s' = true := C.ls0 hvm hR q683
  have hl : (Cond.methodLink (mN mi).cls ic (Bundle.init0 "java/lang/IllegalStateException")).before args s' = true := C.wy hl0 rfl hvm
  exact List.forall_mem_append.mpr ⟨List.forall_mem_append.mpr ⟨ex_thr C hvm lU lN, ex_ch2 C hvm⟩, vx_c (hl) (vx_c (C.wy q2520 rfl hvm) (vx_c (C.wx q2521 rfl rfl hvm) (vx_c (C.wy q2522 rfl hvm) (vx_c (C.wy q692 rfl hvm) (vx_c (C.wy q2523 rfl hvm) (vx_c (C.wy q2524 rfl hvm) (vx_c (C.wy q2525 rfl hvm) (vx_c (C.wy q2526 rfl hvm) (vx_c (iU) (vx_c (iN) (vx_c (C.wy q921 rfl hvm) (vx_c (C.wy q674 rfl hvm) (vx_c (C.wy q2527 rfl hvm) (vx_n))))))))))))))⟩
/-- new E(): three instructions and the constructors -/
theorem tw_newEx {idx ic ci : Nat} {E : String} (rg : Nat) (d0 : decode (mC mi) pc = .ok (.new idx, 3)) (d3 : decode (mC mi) (pc + 3) = .ok (.dup, 1)) (d4 : decode (mC mi) (pc + 4) = .ok (.invokespecial ic, 3))
    (hE : XL[ci]? = some E) (hfit : Bundle.fit E = true) (hk : Cond.classLink (mN mi).cls idx E ∈ lw_all) (hini : Cond.initialized E ∈ lw_all)
    (hat : ∀ (p : Program) (l : Launch) (s s' : State) (m : MethodId) (meth : Method) (c : Code) (args : Array Value), TCx Z mi p l s m meth c → s.vm = s'.vm → RelH Z G s'.heap → ∀ w ∈ Bundle.ownAtoms0 (mN mi).cls ic E ["java/lang/RuntimeException", "java/lang/Exception"], w.before args s' = true)
    (hd : 6 ≤ d) (hst : st.length ≤ 12)
    (k : TW Z mi d (pc + 7) lv (tR (some (gn G)) :: st) (newG G (301 + ci) 0 rg 6) Q) : TW Z mi d pc lv st G Q := by
  obtain ⟨r, G', hQ, hle, kk⟩ := k
  have e1 : gn (newG G (301 + ci) 0 rg 6) = gn G + 1 := rfl
  have e2 : gs (newG G (301 + ci) 0 rg 6) = gs G + 6 := rfl
  refine ⟨r, G', hQ, ⟨by omega, by omega⟩, fun p l e R s m args below meth c H locs cells slots mc ms B ls hlv => ?_⟩
  obtain ⟨C, b2, b3, b4, b5, b6, b7, b8⟩ := B
  have hsize : ls.size = c.maxLocals := hlv.1.trans C.ml.symm
  intro T hT X
  subst hT
  have htr : e.platform.stackTraces = false := (show e.platform.stackTraces = l.stackTraces by rw [X.admits.platform]).trans C.flags
  have hcs := cat_sum st
  have Y := vx_rebase X (R' := { frames := R.frames, locals := R.locals, cells := 1, slots := 6 }) (Nat.le_refl _) (Nat.le_refl _) (show cells + 1 ≤ R.cells by omega) (show slots + 6 ≤ R.slots by omega)
  obtain ⟨s', hA'⟩ : ∃ z, z = (T.setVm s.vm).setFrames (.invoking m args :: below) := ⟨_, rfl⟩
  rw [← hA'] at Y
  have hvm : s'.vm = s.vm := by rw [hA']; rfl
  have hhp : s'.heap = T.heap := by rw [hA']; rfl
  have hW0 : s.WarmedH s'.vm := by rw [hvm]; exact State.WarmedH.refl s
  have h := hat p l s s' m meth c args C hvm.symm (by rw [hhp]; exact b2)
  have hk' : (Cond.classLink (mN mi).cls idx E).before args s' = true := C.wy hk rfl hvm.symm
  have hini' : (Cond.initialized E).before args s' = true := C.wy hini rfl hvm.symm
  have hown' : s'.vm.findClass (mN mi).cls = some m.cls := by rw [hvm]; exact C.own
  have hins : (Cond.instantiable E 6).before args s' = true := h _ (by simp [Bundle.ownAtoms0])
  have d0' : decode c.code pc = .ok (.new idx, 3) := by rw [C.2.1]; exact d0
  have d3' : decode c.code (pc + 3) = .ok (.dup, 1) := by rw [C.2.1]; exact d3
  have d4' : decode c.code (pc + 4) = .ok (.invokespecial ic, 3) := by rw [C.2.1]; exact d4
  obtain ⟨vm₁, cX, kX, hfX, hkX, -, -, X₁, st1⟩ := Y.newCold C.1 (own := (mN mi).cls) (C := E) (index := idx) (n := 6) hown' hk' hins hini'
    (g := F0 m pc ls st) rfl d0' (Nat.le_refl _) (Nat.le_refl _)
  generalize hT1 : (T.setVm vm₁).pushCell { cls := cX, slots := kX.instanceTypes.map defaultValue, vm := .none } = T1 at X₁ st1
  have hcat : (Value.ref T.heap.size).category = 1 := rfl
  have hcellA : T1.heap[T.heap.size]? = some (freshCell cX kX) := by rw [← hT1]; exact State.heap_pushCell_size _ _
  obtain ⟨V, ce, L, Z9, hL, hlt, hcl9, hvm9, st9⟩ := vx_ctorMade0 X₁ C.1 htr (own := (mN mi).cls) (cls := E) (names := ["java/lang/RuntimeException", "java/lang/Exception"]) (ic := ic) hown' hfit (by decide +kernel) h (fun x hx => nomatch hx) hfX hkX hcellA (by rw [hhp]; exact Nat.le_refl _)
    (g := { method := m, pc := pc + 4, locals := ls, stack := .ref T.heap.size :: .ref T.heap.size :: st, locked := none }) rfl hsize (rest := st) rfl
    d4' (show 2 + 3 < R.frames by omega) (show 2 * 0 + (((Value.ref T.heap.size) :: st).map fun v => v.category).sum + (13 * (2 + 1) + 41) ≤ R.locals by simp only [List.map_cons, List.sum_cons, hcat]; omega)
  have Z0 := Stand.forget (locs := []) Z9 (fun y hy => by rw [hL y hy, hhp]; exact Nat.le_refl _)
  obtain ⟨f1, f2⟩ := vx_frame Z0.same
  rw [hhp] at f1 f2
  have hh : (V.setCell T.heap.size ce).heap[T.heap.size]? = some ce := heapAt_setCell_self (s := V) ce hlt
  have hsz : (V.setCell T.heap.size ce).heap.size = T.heap.size + 1 := by
    have hz1 : T1.heap.size = T.heap.size + 1 := by rw [← hT1]; exact Array.size_push _
    have h3 := Z0.same.2.2.1
    rw [hhp] at h3
    have h4 : T.heap.size < (V.setCell T.heap.size ce).heap.size := (Array.getElem?_eq_some_iff.mp hh).1
    exact Nat.le_antisymm h3 h4
  subst hA'
  have X5 := vx_back9 X Y Z0
  have X6 : Stand p l e R s m args below meth c (V.setCell T.heap.size ce) locs (cells + 1) (slots + 6) := { X5 with same := X5.same.mono (by omega) (by omega) }
  have hR1 : RelH Z (newG G (301 + ci) 0 rg 6) (V.setCell T.heap.size ce).heap := by
    refine b2.new hsz (fun q hq => f2 q hq (fun z hz => nomatch hz)) ?_
    have hkk : gK (newG G (301 + ci) 0 rg 6) (gn G) = 301 + ci := up1_at
    have hci : ci < 3 := (List.getElem?_eq_some_iff.mp hE).1
    refine ⟨fun c' r' hc' hk' => ?_, fun t ty ht hk' => ?_, fun c' nm hc' hk' => ?_, fun _ _ => b2.2.1, by rw [hkk]; exact MonF.big (by omega)⟩
    · rw [hkk] at hk'
      have := CL_lt hc'
      omega
    · rw [hkk] at hk'
      have : t < 11 := (List.getElem?_eq_some_iff.mp ht).1
      omega
    · rw [hkk] at hk'
      have hcc : c' = ci := by omega
      subst hcc
      have hnm : nm = E := Option.some.inj (hc'.symm.trans hE)
      subst hnm
      refine ⟨ce, by rw [← b2.1]; exact hh, hvm9, ?_⟩
      rw [hcl9, ← C.warm.alike.findClass, ← hvm]
      exact hfX
  obtain ⟨t, a1, b1⟩ := kk p l e R s m args below meth c (V.setCell T.heap.size ce).heap locs (cells + 1) (slots + 6) mc ms ⟨C, hR1, b3, b4, by omega, by omega, b7, b8⟩ ls hlv _ rfl X6
  refine ⟨t, st1 _ ?_, b1⟩
  show Steps p.tables e below (T1.setTop { method := m, pc := pc + 3, locals := ls, stack := .ref T.heap.size :: st, locked := none }) _
  jvm_step X₁.here [X₁.here.top, C.1, d3', Value.category]
  refine st9 _ ?_
  rw [← b2.1] at a1
  exact a1
theorem tw_newE0 {idx ic : Nat} (rg : Nat) (d0 : decode (mC mi) pc = .ok (.new idx, 3)) (d3 : decode (mC mi) (pc + 3) = .ok (.dup, 1)) (d4 : decode (mC mi) (pc + 4) = .ok (.invokespecial ic, 3)) (hk : Cond.classLink (mN mi).cls idx "java/lang/IllegalArgumentException" ∈ lw_all) (hl : Cond.methodLink (mN mi).cls ic ⟨"java/lang/IllegalArgumentException", "<init>", "()V"⟩ ∈ lw_all) (hd : 6 ≤ d) (hst : st.length ≤ 12)
    (k : TW Z mi d (pc + 7) lv (tR (some (gn G)) :: st) (newG G 301 0 rg 6) Q) : TW Z mi d pc lv st G Q :=
  tw_newEx (ci := 0) (E := "java/lang/IllegalArgumentException") rg d0 d3 d4 rfl (by decide +kernel) hk q177 (fun p l s s' m meth c args C hvm hR => ex_all0 C hvm hR hl) hd hst k
theorem tw_newE1 {idx ic : Nat} (rg : Nat) (d0 : decode (mC mi) pc = .ok (.new idx, 3)) (d3 : decode (mC mi) (pc + 3) = .ok (.dup, 1)) (d4 : decode (mC mi) (pc + 4) = .ok (.invokespecial ic, 3)) (hk : Cond.classLink (mN mi).cls idx "java/lang/IndexOutOfBoundsException" ∈ lw_all) (hl : Cond.methodLink (mN mi).cls ic ⟨"java/lang/IndexOutOfBoundsException", "<init>", "()V"⟩ ∈ lw_all) (hd : 6 ≤ d) (hst : st.length ≤ 12)
    (k : TW Z mi d (pc + 7) lv (tR (some (gn G)) :: st) (newG G 302 0 rg 6) Q) : TW Z mi d pc lv st G Q :=
  tw_newEx (ci := 1) (E := "java/lang/IndexOutOfBoundsException") rg d0 d3 d4 rfl (by decide +kernel) hk q194 (fun p l s s' m meth c args C hvm hR => ex_all1 C hvm hR hl) hd hst k
theorem tw_newE2 {idx ic : Nat} (rg : Nat) (d0 : decode (mC mi) pc = .ok (.new idx, 3)) (d3 : decode (mC mi) (pc + 3) = .ok (.dup, 1)) (d4 : decode (mC mi) (pc + 4) = .ok (.invokespecial ic, 3)) (hk : Cond.classLink (mN mi).cls idx "java/lang/IllegalStateException" ∈ lw_all) (hl : Cond.methodLink (mN mi).cls ic ⟨"java/lang/IllegalStateException", "<init>", "()V"⟩ ∈ lw_all) (hd : 6 ≤ d) (hst : st.length ≤ 12)
    (k : TW Z mi d (pc + 7) lv (tR (some (gn G)) :: st) (newG G 303 0 rg 6) Q) : TW Z mi d pc lv st G Q :=
  tw_newEx (ci := 2) (E := "java/lang/IllegalStateException") rg d0 d3 d4 rfl (by decide +kernel) hk q196 (fun p l s s' m meth c args C hvm hR => ex_all2 C hvm hR hl) hd hst k
end TEXC
