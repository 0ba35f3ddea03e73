/-! THE TOY CALCULUS, 7: how calls are made; throws -/
theorem cat_sum (l : List Value) : (l.map fun v => v.category).sum ≤ 2 * l.length := by
  induction l with
  | nil => exact Nat.le_refl _
  | cons a t ih =>
    rw [List.map_cons, List.sum_cons, List.length_cons]
    have : a.category ≤ 2 := by rcases lv_cat a with h | h <;> omega
    omega
theorem f0_room {m : MethodId} {pc : Nat} {ls : Array Slot} {st rest : List Value} (h : rest.length ≤ 12) : 2 * (F0 m pc ls st).monitorRoom + (rest.map fun v => v.category).sum ≤ 24 := by
  have h1 := cat_sum rest
  have h2 : (F0 m pc ls st).monitorRoom = 0 := by first | rfl | simp [JFrame.monitorRoom]
  rw [h2]
  omega
def NP (y : MethodName) (n : Nat) : Prop := ∀ sig, parseMethodDescriptor y.desc = some sig → n = sig.parameters.length
theorem np_of {y : MethodName} {n : Nat} (h : (parseMethodDescriptor y.desc).map (fun s => s.parameters.length) = some n) : NP y n := by
  intro sig hs
  rw [hs] at h
  exact (Option.some.inj h).symm
abbrev NMH (c : String) : Prop := c ≠ "java/lang/invoke/MethodHandle" ∧ c ≠ "java/lang/invoke/VarHandle"
/-- the receiver's class -/
def RC (k : Nat) (C : String) : Prop := ∃ (c : Nat) (r : vw_C), (k = c + 1 ∨ k = c + 501) ∧ CL[c]? = some r ∧ r.1 = C
section TMECH
variable {Z : ZT} {mi y : MI} {pc idx : Nat} {G : GH} {rest As : List Value} {b : Nat}
theorem RelH.recv {H : Heap} (hR : RelH Z G H) {p : Program} {l : Launch} {s : State} {m : MethodId} {meth : Method} {c : Code} (C : TCx Z mi p l s m meth c) {E : String} (h : RC (gK G b) E) : ∃ cell : Cell, H[b]? = some cell ∧ cell.vm.isStatics = false ∧ s.vm.findClass E = some cell.cls := by
  obtain ⟨ci, r, hk, hc, he⟩ := h
  obtain ⟨cell, w1, w2, w3, -⟩ := hR.obj hc hk
  exact ⟨cell, w1, by rw [w3]; rfl, by rw [← he, w2]; exact C.cls hc⟩
theorem mech_V {E : String} (hd : decode (mC mi) pc = .ok (.invokevirtual idx, 3)) (hl : Cond.methodLink (mN mi).cls idx (mN y) ∈ lw_all) (hi : Cond.instanceMethod (mN y) ∈ lw_all) (hs : Cond.selects E (mN y) (mN y) ∈ lw_all) (hw : mW y ∈ lw_all) (hm : NMH (mN y).cls) (hn : NP (mN y) As.length) (hrc : RC (gK G b) E) (hst : rest.length ≤ 12) :
    Mech Z mi pc 3 y G (As.reverse ++ tR (some b) :: rest) rest (tR (some b) :: As) := by
  intro p l e R s m args below meth c H T locs cells slots ls Pre Post PostX C hR hT X hsz hK hpre
  obtain ⟨cell, w1, w2, w3⟩ := hR.recv C hrc
  obtain ⟨y1, y2, y3, y4, y5⟩ := y
  cases y5 with
  | nil => exact vx_callV X C.1 (C := E) (bytes := y2) (maxL := y3) (ret := y4) C.own (C.wd hl args) (C.wd hi args) (C.wd hs args) (C.wd (show Cond.code y1 y2 y3 y4 ∈ lw_all from hw) args) hm hK (by rw [hT]; exact w1) w2 w3 (g := F0 m pc ls _) rfl hsz (argsL := As) (rest := rest) hn rfl (f0_room hst) (by rw [C.2.1]; exact hd) hpre
  | cons h t => exact vx_callVX X C.1 (C := E) (bytes := y2) (maxL := y3) (ret := y4) (hh := h :: t) C.own (C.wd hl args) (C.wd hi args) (C.wd hs args) (C.wd (show Cond.codeWith y1 y2 y3 y4 (h :: t) ∈ lw_all from hw) args) hm hK (by rw [hT]; exact w1) w2 w3 (g := F0 m pc ls _) rfl hsz (argsL := As) (rest := rest) hn rfl (f0_room hst) (by rw [C.2.1]; exact hd) hpre
theorem mech_S (hd : decode (mC mi) pc = .ok (.invokestatic idx, 3)) (hl : Cond.methodLink (mN mi).cls idx (mN y) ∈ lw_all) (hs : Cond.static (mN y) ∈ lw_all) (hini : Cond.initialized (mN y).cls ∈ lw_all) (hw : mW y ∈ lw_all) (hm : NMH (mN y).cls) (hn : NP (mN y) As.length) (hst : rest.length ≤ 12) :
    Mech Z mi pc 3 y G (As.reverse ++ rest) rest As := by
  intro p l e R s m args below meth c H T locs cells slots ls Pre Post PostX C hR hT X hsz hK hpre
  obtain ⟨y1, y2, y3, y4, y5⟩ := y
  cases y5 with
  | nil => exact vx_callS X C.1 (bytes := y2) (maxL := y3) (ret := y4) C.own (C.wd hl args) (C.wd hs args) (C.wd hini args) (C.wd (show Cond.code y1 y2 y3 y4 ∈ lw_all from hw) args) hm hK (g := F0 m pc ls _) rfl hsz (argsL := As) (rest := rest) hn rfl (f0_room hst) (by rw [C.2.1]; exact hd) hpre
  | cons h t => exact vx_callSX X C.1 (bytes := y2) (maxL := y3) (ret := y4) (hh := h :: t) C.own (C.wd hl args) (C.wd hs args) (C.wd hini args) (C.wd (show Cond.codeWith y1 y2 y3 y4 (h :: t) ∈ lw_all from hw) args) hm hK (g := F0 m pc ls _) rfl hsz (argsL := As) (rest := rest) hn rfl (f0_room hst) (by rw [C.2.1]; exact hd) hpre
theorem mech_SN {host : String} (hd : decode (mC mi) pc = .ok (.invokestatic idx, 3)) (hl : Cond.methodLinkNest (mN mi).cls idx (mN y) host ∈ lw_tbl) (hs : Cond.static (mN y) ∈ lw_all) (hini : Cond.initialized (mN y).cls ∈ lw_all) (hw : mW y ∈ lw_all) (hH : mH y = []) (hm : NMH (mN y).cls) (hn : NP (mN y) As.length) (hst : rest.length ≤ 12) :
    Mech Z mi pc 3 y G (As.reverse ++ rest) rest As := by
  intro p l e R s m args below meth c H T locs cells slots ls Pre Post PostX C hR hT X hsz hK hpre
  obtain ⟨y1, y2, y3, y4, y5⟩ := y
  cases hH
  exact vx_callSN X C.1 (bytes := y2) (maxL := y3) (ret := y4) (host := host) C.own (va_Nw.use rfl (C.nestM hl)) (C.wd hs args) (C.wd hini args) (C.wd (show Cond.code y1 y2 y3 y4 ∈ lw_all from hw) args) hm hK (g := F0 m pc ls _) rfl hsz (argsL := As) (rest := rest) hn rfl (f0_room hst) (by rw [C.2.1]; exact hd) hpre
theorem mech_I (hd : decode (mC mi) pc = .ok (.invokespecial idx, 3)) (hl : Cond.methodLink (mN mi).cls idx (mN y) ∈ lw_all) (hi : Cond.instanceMethod (mN y) ∈ lw_all) (hw : mW y ∈ lw_all) (hnm : (mN y).name = "<init>") (hH : mH y = []) (hr : mR y = none) (hm : NMH (mN y).cls) (hn : NP (mN y) As.length) (hst : rest.length ≤ 12) :
    Mech Z mi pc 3 y G (As.reverse ++ tR (some b) :: rest) rest (tR (some b) :: As) := by
  intro p l e R s m args below meth c H T locs cells slots ls Pre Post PostX C hR hT X hsz hK hpre
  obtain ⟨y1, y2, y3, y4, y5⟩ := y
  cases hH
  cases hr
  exact vx_callI X C.1 (bytes := y2) (maxL := y3) C.own hnm (C.wd hl args) (C.wd hi args) (C.wd (show Cond.code y1 y2 y3 none ∈ lw_all from hw) args) hm hK (g := F0 m pc ls _) rfl hsz (a := b) (argsL := As) (rest := rest) hn rfl (f0_room hst) (by rw [C.2.1]; exact hd) hpre
theorem mech_IN {host : String} (hd : decode (mC mi) pc = .ok (.invokespecial idx, 3)) (hl : Cond.methodLinkNest (mN mi).cls idx (mN y) host ∈ lw_tbl) (hi : Cond.instanceMethod (mN y) ∈ lw_all) (hw : mW y ∈ lw_all) (hnm : (mN y).name = "<init>") (hH : mH y = []) (hr : mR y = none) (hm : NMH (mN y).cls) (hn : NP (mN y) As.length) (hst : rest.length ≤ 12) :
    Mech Z mi pc 3 y G (As.reverse ++ tR (some b) :: rest) rest (tR (some b) :: As) := by
  intro p l e R s m args below meth c H T locs cells slots ls Pre Post PostX C hR hT X hsz hK hpre
  obtain ⟨y1, y2, y3, y4, y5⟩ := y
  cases hH
  cases hr
  exact vx_callIN X C.1 (bytes := y2) (maxL := y3) (host := host) C.own hnm (va_Nw.use rfl (C.nestM hl)) (C.wd hi args) (C.wd (show Cond.code y1 y2 y3 none ∈ lw_all from hw) args) hm hK (g := F0 m pc ls _) rfl hsz (a := b) (argsL := As) (rest := rest) hn rfl (f0_room hst) (by rw [C.2.1]; exact hd) hpre
/-- the method that the pool names is x, of the class owner; the receiver's class E runs y -/
theorem mech_U {E owner : String} {x : MethodName} (hd : decode (mC mi) pc = .ok (.invokevirtual idx, 3)) (hl : Cond.methodLink (mN mi).cls idx x ∈ lw_all) (hsame : Cond.sameMethod x.cls owner x.name x.desc ∈ lw_all) (hdecl : (∃ b0 m0 r0, Cond.instanceMethod ⟨owner, x.name, x.desc⟩ ∈ lw_all ∧ Cond.code ⟨owner, x.name, x.desc⟩ b0 m0 r0 ∈ lw_all) ∨ Cond.declares ⟨owner, x.name, x.desc⟩ ∈ lw_tbl) (hown : NMH owner)
    (hs : Cond.selects E x (mN y) ∈ lw_all) (hi : Cond.instanceMethod (mN y) ∈ lw_all) (hw : mW y ∈ lw_all) (hH : mH y = []) (hn : NP x As.length) (hrc : RC (gK G b) E) (hst : rest.length ≤ 12) :
    Mech Z mi pc 3 y G (As.reverse ++ tR (some b) :: rest) rest (tR (some b) :: As) := by
  intro p l e R s m args below meth c H T locs cells slots ls Pre Post PostX C hR hT X hsz hK hpre
  obtain ⟨cell, w1, w2, w3⟩ := hR.recv C hrc
  obtain ⟨y1, y2, y3, y4, y5⟩ := y
  cases hH
  have hdec : va_Decl s ⟨owner, x.name, x.desc⟩ := by
    rcases hdecl with ⟨b0, m0, r0, g1, g2⟩ | g
    · exact va_Decl.of (C.wd g1 args) (C.wd g2 args)
    · exact va_Decl.abs (va_Nw.warmD C.warm (va_Nw.of rfl (C.zok.1 _ g)))
  exact vx_callVU X C.1 (C := E) (owner := owner) (bytes := y2) (maxL := y3) (ret := y4) C.own (C.wd hl args) (C.wd hsame args) hdec hown (C.wd hs args) (C.wd hi args) (C.wd (show Cond.code y1 y2 y3 y4 ∈ lw_all from hw) args) hK (by rw [hT]; exact w1) w2 w3 (g := F0 m pc ls _) rfl hsz (argsL := As) (rest := rest) hn rfl (f0_room hst) (by rw [C.2.1]; exact hd) hpre
/-- by an interface -/
theorem mech_F {E : String} {x : MethodName} {count : Nat} (hd : decode (mC mi) pc = .ok (.invokeinterface idx count, 5)) (hl : Cond.methodLink (mN mi).cls idx x ∈ lw_all) (hdecl : Cond.declares x ∈ lw_tbl) (hface : Cond.interfaceMethod x.cls x.cls x.name x.desc ∈ lw_tbl) (hpub : Cond.publicMethod (mN y) ∈ lw_tbl) (hunh : Cond.unhidden E x.name x.desc ∈ lw_tbl) (hcast : Cond.castable E x.cls ∈ lw_tbl)
    (hs : Cond.selects E x (mN y) ∈ lw_all) (hi : Cond.instanceMethod (mN y) ∈ lw_all) (hw : mW y ∈ lw_all) (hH : mH y = []) (hm : NMH x.cls) (hn : NP x As.length) (hrc : RC (gK G b) E) (hst : rest.length ≤ 12) :
    Mech Z mi pc 5 y G (As.reverse ++ tR (some b) :: rest) rest (tR (some b) :: As) := by
  intro p l e R s m args below meth c H T locs cells slots ls Pre Post PostX C hR hT X hsz hK hpre
  obtain ⟨cell, w1, w2, w3⟩ := hR.recv C hrc
  obtain ⟨kB, hkB, -⟩ := Vm.findClass_spec w3
  obtain ⟨y1, y2, y3, y4, y5⟩ := y
  cases hH
  obtain ⟨f1, f2, f3, f4, f5⟩ := va_Fw.moved hm C.warm.alike (va_Fw.of (C.zok.1 _ hdecl) (C.zok.1 _ hface) (C.zok.1 _ hpub) (C.zok.1 _ hunh) (C.zok.1 _ hcast))
  exact vx_callIF X C.1 (C := E) (count := count) (bytes := y2) (maxL := y3) (ret := y4) C.own (C.wd hl args) (va_any rfl f1) (va_any rfl f2) (C.wd hs args) (C.wd hi args) (va_any rfl f3) (va_any rfl f4) (va_any rfl f5) (C.wd (show Cond.code y1 y2 y3 y4 ∈ lw_all from hw) args) hm hK (by rw [hT]; exact w1) w2 w3 hkB (g := F0 m pc ls _) rfl hsz (argsL := As) (rest := rest) hn rfl (f0_room hst) (by rw [C.2.1]; exact hd) hpre
end TMECH
section TTHROW
variable {Z : ZT} {mi : MI} {d pc : Nat} {lv : List (Option Value)} {st : List Value} {G : GH} {Q : TR → GH → Prop}
/-- not caught here -/
theorem tx_out {q : Nat} (hout : (tableOf (mH mi)).all (fun x => !covers x pc) = true) (hQ : Q (.inr q) G) : TX Z mi d pc lv q G Q := by
  refine ⟨.inr q, G, hQ, ⟨Nat.le_refl _, Nat.le_refl _⟩, fun p l e R s m args below meth c H locs cells slots mc ms B ls rest hl => ?_⟩
  obtain ⟨C, b2, b3, b4, b5, b6, b7, b8⟩ := B
  intro T hT X
  obtain ⟨st1, hrun, hend, hW, hsm⟩ := X.leaveThrown q (g := F0 m pc ls rest) rfl rfl rfl (fun x hx => by
    rw [C.hand] at hx
    have := List.all_eq_true.mp hout x hx
    rw [Bool.not_eq_true'] at this
    exact this) C.locks
  exact ⟨_, st1, .threw q, hrun, hend, rfl, locs, hW, hsm.mono (by omega) (by omega), b3, by rw [show (T.setFrames (.throwing q :: below)).heap = T.heap from rfl, hT]; exact b2⟩
/-- the class of a thrown thing -/
def XC (k : Nat) (E : String) : Prop := (∃ (c : Nat) (r : vw_C), (k = c + 1 ∨ k = c + 501) ∧ CL[c]? = some r ∧ r.1 = E) ∨ ∃ c, k = 301 + c ∧ XL[c]? = some E
theorem RelH.exc {H : Heap} (hR : RelH Z G H) {p : Program} {l : Launch} {s : State} {m : MethodId} {meth : Method} {c : Code} (C : TCx Z mi p l s m meth c) {q : Nat} {E : String} (h : XC (gK G q) E) : ∃ ce : Cell, H[q]? = some ce ∧ ce.vm = .none ∧ s.vm.findClass E = some ce.cls := by
  rcases h with ⟨ci, r, hk, hc, he⟩ | ⟨ci, hk, hc⟩
  · obtain ⟨cell, w1, w2, w3, -⟩ := hR.obj hc hk
    exact ⟨cell, w1, w3, by rw [← he, w2]; exact C.cls hc⟩
  · obtain ⟨cell, w1, w2, w3⟩ := (hR.2.2.2.2 q).2.2.1 ci E hc hk
    exact ⟨cell, w1, w2, by rw [C.warm.alike.findClass]; exact w3⟩
/-- caught by the row x of the table -/
theorem tx_catch {q : Nat} {E nm : String} (pre : List ExceptionTableEntry) (x : ExceptionTableEntry) (suf : List ExceptionTableEntry) (hsp : tableOf (mH mi) = pre ++ x :: suf) (hq : XC (gK G q) E)
    (hpass : ∀ z ∈ pre, covers z pc = false ∨ (z.catchType ≠ 0 ∧ ∃ n9 : String, Cond.classLink (mN mi).cls z.catchType n9 ∈ lw_all ∧ (E, n9) ∈ NCL)) (hx : covers x pc = true) (h0 : x.catchType ≠ 0) (hl : Cond.classLink (mN mi).cls x.catchType nm ∈ lw_all) (hc : Cond.castable E nm ∈ lw_tbl)
    (k : TW Z mi d x.handlerPc lv [tR (some q)] G Q) : TX Z mi d pc lv q G Q := by
  obtain ⟨r, G', hQ, hle, k⟩ := k
  refine ⟨r, G', hQ, hle, fun p l e R s m args below meth c H locs cells slots mc ms B ls rest hl2 => ?_⟩
  have C := B.1
  obtain ⟨ce, w1, w2, w3⟩ := B.2.1.exc C hq
  exact vx_catch (name := nm) (E := E) C.own pre x suf (C.hand.trans hsp) (fun z hz => by
    rcases hpass z hz with h | ⟨h1, n9, h2, h3⟩
    · exact Or.inl h
    · exact Or.inr ⟨h1, n9, C.wd h2 args, (C.zok.2.2.2.1 _ h3).moved C.warm.alike⟩) hx h0 (C.wd hl args) (va_Nw.use rfl (C.cast hc)) w1 w2 w3 (k p l e R s m args below meth c H locs cells slots mc ms B ls hl2)
theorem tw_athrow {q : Nat} (hd : decode (mC mi) pc = .ok (.athrow, 1)) (k : TX Z mi d pc lv q G Q) : TW Z mi d pc lv (tR (some q) :: st) G Q := by
  obtain ⟨r, G', hQ, hle, k⟩ := k
  exact ⟨r, G', hQ, hle, fun p l e R s m args below meth c H locs cells slots mc ms B ls hl => vx_athrow B.1.1 B.1.2.1 hd (k p l e R s m args below meth c H locs cells slots mc ms B ls st hl)⟩
end TTHROW
