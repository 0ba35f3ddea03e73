/-! THE TOY CALCULUS, 5: returns, the entry, calls, throws -/
theorem W.imp {p : Program} {l : Launch} {e : Env} {R : Room} {s : State} {m : MethodId} {args : Array Value} {below : List Frame} {meth : Method} {c : Code} {H : Heap} {locs : List Loc} {cells slots : Nat} {Q Q' : State → Prop} {g : JFrame}
    (k : W p l e R s m args below meth c H locs cells slots Q g) (h : ∀ t, Q t → Q' t) : W p l e R s m args below meth c H locs cells slots Q' g := by
  intro T hT X
  obtain ⟨t, a, b⟩ := k T hT X
  exact ⟨t, a, h t b⟩
section TRET
variable {Z : ZT} {mi : MI} {d pc : Nat} {lv : List (Option Value)} {st : List Value} {G : GH} {Q : TR → GH → Prop}
theorem TW.retOf {v : Option Value} (h : ∀ p l e R s m args below meth c H locs cells slots, TCx Z mi p l s m meth c → (∀ z ∈ locs, zz Z ≤ z.base) → ∀ ls, W p l e R s m args below meth c H locs cells slots (MQ below (fun _ _ o t => o = .returned v ∧ t.heap = H) args s cells slots (fun q => zz Z ≤ q)) (F0 m pc ls st)) (hQ : Q (.inl v) G) : TW Z mi d pc lv st G Q := by
  refine ⟨.inl v, G, hQ, ⟨Nat.le_refl _, Nat.le_refl _⟩, fun p l e R s m args below meth c H locs cells slots mc ms B ls hl => ?_⟩
  obtain ⟨b1, b2, b3, b4, b5, b6, b7, b8⟩ := B
  refine (h p l e R s m args below meth c H locs cells slots b1 b3 ls).imp fun t q => ?_
  obtain ⟨o, q1, q2, ⟨q3, q4⟩, L, ⟨q5, q6, q7⟩, q8⟩ := q
  exact ⟨o, q1, q2, q3, L, q6, q7.mono (by omega) (by omega), q8, by rw [q4]; exact b2⟩
theorem tw_iret {x : Int} (hd : decode (mC mi) pc = .ok (.ireturn, 1)) (hr : mR mi = some .int) (hQ : Q (.inl (some (tI x))) G) : TW Z mi d pc lv [tI x] G Q :=
  TW.retOf (fun p l e R s m args below meth c H locs cells slots C hf ls => W.iret C.1 C.2.1 (C.ret.trans hr) (fun t ht _ => ⟨rfl, ht⟩) hf hd C.locks) hQ
theorem tw_zret {x : Int} (hd : decode (mC mi) pc = .ok (.ireturn, 1)) (hr : mR mi = some .boolean) (hx : x = 0 ∨ x = 1) (hQ : Q (.inl (some (tI x))) G) : TW Z mi d pc lv [tI x] G Q :=
  TW.retOf (fun p l e R s m args below meth c H locs cells slots C hf ls => W.zret C.1 C.2.1 (C.ret.trans hr) (by rcases hx with e | e <;> (subst e; rfl)) (fun t ht _ => ⟨rfl, ht⟩) hf hd C.locks) hQ
/-- a narrow type's answer -/
theorem tw_nret {x : Int} {ty : FieldType} (hd : decode (mC mi) pc = .ok (.ireturn, 1)) (hr : mR mi = some ty) (hx : narrow ty (.int (Int32.ofInt x)) = .int (Int32.ofInt x)) (hQ : Q (.inl (some (tI x))) G) : TW Z mi d pc lv [tI x] G Q :=
  TW.retOf (fun p l e R s m args below meth c H locs cells slots C hf ls => W.zret C.1 C.2.1 (C.ret.trans hr) hx (fun t ht _ => ⟨rfl, ht⟩) hf hd C.locks) hQ
theorem tw_vret (hd : decode (mC mi) pc = .ok (.return_, 1)) (hr : mR mi = none) (hQ : Q (.inl none) G) : TW Z mi d pc lv [] G Q :=
  TW.retOf (fun p l e R s m args below meth c H locs cells slots C hf ls => W.vret C.1 C.2.1 (C.ret.trans hr) (fun t ht _ => ⟨rfl, ht⟩) hf hd C.locks) hQ
theorem tw_aret {r : Option Nat} {ty : FieldType} (hd : decode (mC mi) pc = .ok (.areturn, 1)) (hr : mR mi = some ty) (hty : ty.isReference = true) (hQ : Q (.inl (some (tR r))) G) : TW Z mi d pc lv [tR r] G Q :=
  TW.retOf (fun p l e R s m args below meth c H locs cells slots C hf ls => W.aret C.1 C.2.1 (C.ret.trans hr) (by cases ty <;> first | exact Or.inl ⟨_, rfl⟩ | exact Or.inr ⟨_, rfl⟩ | cases hty) (by cases r <;> first | exact Or.inl rfl | exact Or.inr ⟨_, rfl⟩) (fun t ht _ => ⟨rfl, ht⟩) hf hd C.locks) hQ
theorem tw_lret {x : Int} (hd : decode (mC mi) pc = .ok (.lreturn, 1)) (hr : mR mi = some .long) (hQ : Q (.inl (some (tL x))) G) : TW Z mi d pc lv [tL x] G Q :=
  TW.retOf (fun p l e R s m args below meth c H locs cells slots C hf ls => W.lret C.1 C.2.1 (C.ret.trans hr) (fun t ht _ => ⟨rfl, ht⟩) hf hd C.locks) hQ
theorem tw_fret {x : UInt32} (hd : decode (mC mi) pc = .ok (.freturn, 1)) (hr : mR mi = some .float) (hQ : Q (.inl (some (.float x))) G) : TW Z mi d pc lv [.float x] G Q :=
  TW.retOf (fun p l e R s m args below meth c H locs cells slots C hf ls => W.fret C.1 C.2.1 (C.ret.trans hr) (fun t ht _ => ⟨rfl, ht⟩) hf hd C.locks) hQ
theorem tw_dret {x : UInt64} (hd : decode (mC mi) pc = .ok (.dreturn, 1)) (hr : mR mi = some .double) (hQ : Q (.inl (some (.double x))) G) : TW Z mi d pc lv [.double x] G Q :=
  TW.retOf (fun p l e R s m args below meth c H locs cells slots C hf ls => W.dret C.1 C.2.1 (C.ret.trans hr) (fun t ht _ => ⟨rfl, ht⟩) hf hd C.locks) hQ
end TRET
/-! the entry -/
theorem mW_spec {y : MI} {args : Array Value} {s : State} {m : MethodId} (hn : s.methodNamed? (mN y) = some m) (h : (mW y).before args s = true) :
    ∃ meth c, s.vm.method? m = some meth ∧ meth.code = some c ∧ c.code = mC y ∧ c.maxLocals = mL y ∧ meth.sig.returnType = mR y ∧ meth.locks = false ∧ c.exceptionTable.toList = tableOf (mH y) := by
  obtain ⟨y1, y2, y3, y4, y5⟩ := y
  cases y5 with
  | nil =>
    obtain ⟨meth, c, h1, h2, h3, h4, h5, h6, h7, -⟩ := Cond.code_spec hn (show (Cond.code y1 y2 y3 y4).before args s = true from h)
    exact ⟨meth, c, h1, h2, h3, h4, h5, h6, by rw [Array.isEmpty_iff.mp h7]; rfl⟩
  | cons a b =>
    obtain ⟨m9, meth, c, hn9, h1, h2, h3, h4, h7, h5, h6, -⟩ := Cond.codeWith_spec (show (Cond.codeWith y1 y2 y3 y4 (a :: b)).before args s = true from h)
    cases hn.symm.trans hn9
    exact ⟨meth, c, h1, h2, h3, h4, h5, h6, by rw [show mH (y1, y2, y3, y4, a :: b) = a :: b from rfl, ← h7, table_eq]⟩
theorem lv_args_mem {vs : List Value} (hc : ∀ v ∈ vs, v.category = 1) : ∀ (b j : Nat) (v : Value), vs[j]? = some v → (b + j, v) ∈ lv_args b vs := by
  induction vs with
  | nil => intro b j v h; simp at h
  | cons a t ih =>
    intro b j v h
    rw [lv_args, if_neg (by rw [hc a List.mem_cons_self]; decide)]
    cases j with
    | zero => simp at h; rw [h]; exact List.mem_cons_self
    | succ j =>
      have := ih (fun v hv => hc v (List.mem_cons_of_mem _ hv)) (b + 1) j v (by simpa using h)
      rw [show b + (j + 1) = b + 1 + j by omega]
      exact List.mem_cons_of_mem _ this
theorem lg_sl_len {vs : List Value} (hc : ∀ v ∈ vs, v.category = 1) : (lg_sl vs).length = vs.length := by
  induction vs with
  | nil => rfl
  | cons a t ih =>
    have h := ih (fun v hv => hc v (List.mem_cons_of_mem _ hv))
    unfold lg_sl at h ⊢
    rw [List.flatMap_cons, if_neg (by rw [hc a List.mem_cons_self]; decide)]
    simp [h]
def lv0 (mi : MI) (args : List Value) : List (Option Value) := args.map some ++ List.replicate (mL mi - args.length) none
theorem tc_of {Z : ZT} {d : Nat} {mi : MI} {args : List Value} {G : GH} {Q : TR → GH → Prop} (hpl : plainFor (mN mi) = true) (hc : ∀ v ∈ args, v.category = 1) (hlen : args.length ≤ mL mi) (k : TW Z mi d 0 (lv0 mi args) [] G Q) : TC Z d mi args G Q := by
  obtain ⟨r, G', hQ, hle, k⟩ := k
  refine ⟨r, G', hQ, hle, fun l hfl => ?_⟩
  refine MetFree.of_bodySF (code := mC mi) (maxLocals := mL mi) (ret := mR mi) hpl ?_ ?_
  · intro av s m h hn
    obtain ⟨meth, c, h1, h2, h3, h4, h5, h6, -⟩ := mW_spec hn (atoms_spec (ws := [mW mi]) h _ List.mem_cons_self)
    exact ⟨meth, c, h1, h2, h3, h4, h5, h6⟩
  · intro p e s m av below meth c s₁ B hml hP _
    obtain ⟨rfl, hR, hW, hZ⟩ := hP
    have hh0 : s₁.heap = s.heap := by rw [B.state]; rfl
    have X := Stand.of_body B
    obtain ⟨meth9, c9, h1, h2, h3, h4, h5, h6, h7⟩ := mW_spec B.named (atoms_spec (ws := [mW mi]) B.pre _ List.mem_cons_self)
    cases Option.some.inj (h1.symm.trans B.method)
    cases Option.some.inj (h2.symm.trans X.code)
    have C : TCx Z mi p l s m meth c := ⟨B.exec, B.bytes, B.returns, B.notSynchronized, hml, findClass_of_methodNamed B.named, (name_of_methodNamed B.named B.method).1, h7, hW, hfl, hZ⟩
    have hl := lv_entry args (n := mL mi) (by rw [lg_sl_len hc]; exact hlen)
    have hl2 := lvh_of (lv := lv0 mi args) hl (fun q hq => by
      obtain ⟨j, g1, g2⟩ := mem_asc.mp hq
      obtain ⟨q1, q2⟩ := q
      simp only at g1 g2
      rw [g2]
      refine lv_args_mem hc 0 j q2 ?_
      unfold lv0 at g1
      by_cases hj : j < args.length
      · rw [List.getElem?_append_left (by simpa using hj), List.getElem?_map] at g1
        cases hx : args[j]? with
        | none => rw [hx] at g1; simp at g1
        | some w => rw [hx] at g1; simp at g1; rw [g1]
      · rw [List.getElem?_append_right (by simpa using hj), List.getElem?_replicate] at g1
        split at g1 <;> cases g1)
    have K := k p l e (headSpec [mW mi] (tRoom d (gn G' - gn G) (gs G' - gs G))).room s m args.toArray below meth c s.heap [] 0 0 (gn G' - gn G) (gs G' - gs G)
      ⟨C, hR, (fun z hz => absurd hz List.not_mem_nil), ⟨Nat.le_refl _, Nat.le_refl _⟩, by omega, by omega, Nat.le_refl _, Nat.le_refl _⟩ _ hl2
    rw [← lg_entry_eq] at K
    obtain ⟨t, a1, o, b1, b2, b3⟩ := K s₁ hh0 X
    exact ⟨t, o, a1, b1, b2, b3⟩
