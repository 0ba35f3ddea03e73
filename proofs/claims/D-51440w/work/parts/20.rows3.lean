/-! THE TOY CALCULUS, 8: helpers of the printed regions -/
section TDER
variable {Z : ZT} {mi : MI} {d pc : Nat} {lv : List (Option Value)} {st : List Value} {G : GH} {Q : TR → GH → Prop} {r : Option Nat} {a : Nat}
theorem tw_der0 (h : r = some a) (k : TW Z mi d pc lv (tR (some a) :: st) G Q) : TW Z mi d pc lv (tR r :: st) G Q := by subst h; exact k
theorem tw_der1 {v : Value} (h : r = some a) (k : TW Z mi d pc lv (v :: tR (some a) :: st) G Q) : TW Z mi d pc lv (v :: tR r :: st) G Q := by subst h; exact k
theorem tw_der2 {v w : Value} (h : r = some a) (k : TW Z mi d pc lv (v :: w :: tR (some a) :: st) G Q) : TW Z mi d pc lv (v :: w :: tR r :: st) G Q := by subst h; exact k
theorem tw_der3 {v w u : Value} (h : r = some a) (k : TW Z mi d pc lv (v :: w :: u :: tR (some a) :: st) G Q) : TW Z mi d pc lv (v :: w :: u :: tR r :: st) G Q := by subst h; exact k
theorem tw_der4 {v w u z : Value} (h : r = some a) (k : TW Z mi d pc lv (v :: w :: u :: z :: tR (some a) :: st) G Q) : TW Z mi d pc lv (v :: w :: u :: z :: tR r :: st) G Q := by subst h; exact k
theorem tw_der5 {v w u z y : Value} (h : r = some a) (k : TW Z mi d pc lv (v :: w :: u :: z :: y :: tR (some a) :: st) G Q) : TW Z mi d pc lv (v :: w :: u :: z :: y :: tR r :: st) G Q := by subst h; exact k
theorem tw_der6 {v w u z y x : Value} (h : r = some a) (k : TW Z mi d pc lv (v :: w :: u :: z :: y :: x :: tR (some a) :: st) G Q) : TW Z mi d pc lv (v :: w :: u :: z :: y :: x :: tR r :: st) G Q := by subst h; exact k
/-- a local is forgotten -/
theorem tw_fgt (i : Nat) (k : TW Z mi d pc (lv.set i none) st G Q) : TW Z mi d pc lv st G Q := k.sub (fun j v h => by
  rw [List.getElem?_set] at h
  split at h
  · split at h <;> cases h
  · exact h)
theorem mm8 : Int8.minValue.toInt = -128 ∧ Int8.maxValue.toInt = 127 := by decide
theorem mm16 : Int16.minValue.toInt = -32768 ∧ Int16.maxValue.toInt = 32767 := by decide
theorem tw_bipush' {n : Int} (hd : decode (mC mi) pc = .ok (.bipush n, 2)) (hn : -128 ≤ n ∧ n ≤ 127) (k : TW Z mi d (pc + 2) lv (tI n :: st) G Q) : TW Z mi d pc lv st G Q :=
  tw_bipush hd (Int8.toInt32_ofInt (by rw [mm8.1]; exact hn.1) (by rw [mm8.2]; exact hn.2)) k
theorem tw_sipush' {n : Int} (hd : decode (mC mi) pc = .ok (.sipush n, 3)) (hn : -32768 ≤ n ∧ n ≤ 32767) (k : TW Z mi d (pc + 3) lv (tI n :: st) G Q) : TW Z mi d pc lv st G Q :=
  tw_sipush hd (Int16.toInt32_ofInt (by rw [mm16.1]; exact hn.1) (by rw [mm16.2]; exact hn.2)) k
theorem tw_castO {idx : Nat} {E : String} (hd : decode (mC mi) pc = .ok (.checkcast idx, 3)) (hcl : Cond.classLink (mN mi).cls idx E ∈ lw_all) (hE : ∀ a, r = some a → KE (gK G a) E) (k : TW Z mi d (pc + 3) lv (tR r :: st) G Q) : TW Z mi d pc lv (tR r :: st) G Q := by
  cases r with
  | none => exact tw_castN hd k
  | some a => exact tw_cast hd hcl (hE a rfl) k
theorem tw_aastO {t n : Nat} {E : String} {i : Int} (hd : decode (mC mi) pc = .ok (.aastore, 1)) (ht : AT[t]? = some (.object E)) (hk : gK G a = 100 + t) (hn : gL G a = n) (h0 : 0 ≤ i) (h1 : i < n) (hv : ∀ v, r = some v → KE (gK G v) E) (k : TW Z mi d (pc + 1) lv st (setQ G a i.toNat r) Q) : TW Z mi d pc lv (tR r :: tI i :: tR (some a) :: st) G Q := by
  cases r with
  | none => exact tw_aastN hd ht hk hn h0 h1 k
  | some v => exact tw_aast hd ht hk hn h0 h1 (hv v rfl) k
theorem rc_of {k c : Nat} {w : vw_C} (h : k = c + 1) (hc : CL[c]? = some w) : RC k w.1 := ⟨c, w, Or.inl h, hc, rfl⟩
theorem rc_fr {k c : Nat} {w : vw_C} (h : k = c + 501) (hc : CL[c]? = some w) : RC k w.1 := ⟨c, w, Or.inr h, hc, rfl⟩
theorem ke_of {k c : Nat} {E : String} {w : vw_C} (h : k = c + 1) (hc : CL[c]? = some w) (he : w.1 = E ∨ Cond.castable w.1 E ∈ lw_tbl) : KE k E := ⟨c, w, Or.inl h, hc, he⟩
theorem ke_fr {k c : Nat} {E : String} {w : vw_C} (h : k = c + 501) (hc : CL[c]? = some w) (he : w.1 = E ∨ Cond.castable w.1 E ∈ lw_tbl) : KE k E := ⟨c, w, Or.inr h, hc, he⟩
theorem kf1 {k f : Nat} (n : Nat) (h : k = n) (hb : kfb n f = true) : KF k f := by subst h; exact kf_of hb
theorem kw1 {k f : Nat} (n : Nat) (h : k = n) (hb : kwb n f = true) : KW k f := by subst h; exact kw_of hb
end TDER
section THP
variable {G : GH} {f f' a b i j : Nat} {v : Int} {q : Option Nat}
theorem fI_ne (h : f' ≠ f) : fI (setI G f a v) f' b = fI G f' b := up2_ne (Or.inl h)
theorem fI_at : fI (setI G f a v) f a = v := up2_at
theorem fI_na (h : b ≠ a) : fI (setI G f a v) f' b = fI G f' b := up2_ne (Or.inr h)
theorem fR_ne (h : f' ≠ f) : fR (setR G f a q) f' b = fR G f' b := up2_ne (Or.inl h)
theorem fR_at : fR (setR G f a q) f a = q := up2_at
theorem fR_na (h : b ≠ a) : fR (setR G f a q) f' b = fR G f' b := up2_ne (Or.inr h)
theorem aI_at : aI (setA G a i v) a i = v := up2_at
theorem aI_ne (h : j ≠ i) : aI (setA G a i v) b j = aI G b j := up2_ne (Or.inr h)
theorem aI_na (h : b ≠ a) : aI (setA G a i v) b j = aI G b j := up2_ne (Or.inl h)
theorem aR_at : aR (setQ G a i q) a i = q := up2_at
theorem aR_ne (h : j ≠ i) : aR (setQ G a i q) b j = aR G b j := up2_ne (Or.inr h)
theorem aR_na (h : b ≠ a) : aR (setQ G a i q) b j = aR G b j := up2_ne (Or.inl h)
end THP
theorem cats_nil : ∀ v ∈ ([] : List Value), v.category = 1 := fun _ h => absurd h List.not_mem_nil
theorem cats_cons {v : Value} {l : List Value} (h : v.category = 1) (hl : ∀ v ∈ l, v.category = 1) : ∀ w ∈ v :: l, w.category = 1 := List.forall_mem_cons.mpr ⟨h, hl⟩
theorem gK_nw {G : GH} {k n r N a : Nat} : gK (newG G k n r N) a = if a = gn G then k else gK G a := rfl
theorem gL_nw {G : GH} {k n r N a : Nat} : gL (newG G k n r N) a = if a = gn G then n else gL G a := rfl
theorem gP_nw {G : GH} {k n r N a : Nat} : gP (newG G k n r N) a = if a = gn G then r else gP G a := rfl
theorem gn_nw {G : GH} {k n r N : Nat} : gn (newG G k n r N) = gn G + 1 := rfl
theorem gs_nw {G : GH} {k n r N : Nat} : gs (newG G k n r N) = gs G + N := rfl
section TOI
variable {Z : ZT} {mi : MI} {d pc : Nat} {lv : List (Option Value)} {st : List Value} {G : GH} {Q : TR → GH → Prop}
theorem tw_objInit {idx a : Nat} (hd : decode (mC mi) pc = .ok (.invokespecial idx, 3)) (hl : Cond.methodLink (mN mi).cls idx Lib.objectInit ∈ lw_all) (hi : Cond.instanceMethod Lib.objectInit ∈ lw_all) (hc : Cond.code Lib.objectInit ⟨#[0xb1]⟩ 1 none ∈ lw_all) (hst : st.length ≤ 12) (k : TW Z mi (d + 1) (pc + 3) lv st G Q) : TW Z mi (d + 1) pc lv (tR (some a) :: st) G Q := by
  obtain ⟨r, G', h1, h2, h3⟩ := k
  refine ⟨r, G', h1, h2, fun p l e R s m args below meth c H locs cells slots mc ms B ls hl2 => ?_⟩
  have C := B.1
  have h4 := B.2.2.2.1
  refine W.objInit C.1 C.2.1 C.own (C.wd hl args) (C.wd hi args) (C.wd hc args) rfl (hl2.1.trans C.ml.symm) rfl hd (by omega) ?_ (h3 p l e R s m args below meth c H locs cells slots mc ms B ls hl2)
  have h5 := f0_room (m := m) (pc := pc) (ls := ls) (st := .ref a :: st) hst
  show 2 * (F0 m pc ls (.ref a :: st)).monitorRoom + (st.map fun v => v.category).sum + 12 ≤ R.locals
  omega
end TOI
section TMA
variable {Z : ZT} {mi y : MI} {pc idx : Nat} {G : GH} {rest : List Value} {b : Nat}
theorem mech_V0 {E : String} (hd : decode (mC mi) pc = .ok (.invokevirtual idx, 3)) (hl : Cond.methodLink (mN mi).cls idx (mN y) ∈ lw_all) (hi : Cond.instanceMethod (mN y) ∈ lw_all) (hs : Cond.selects E (mN y) (mN y) ∈ lw_all) (hw : mW y ∈ lw_all) (hm : NMH (mN y).cls) (hn : NP (mN y) 0) (hrc : RC (gK G b) E) (hst : rest.length ≤ 12) :
    Mech Z mi pc 3 y G (tR (some b) :: rest) rest [tR (some b)] := mech_V (As := []) (rest := rest) hd hl hi hs hw hm hn hrc hst
theorem mech_V1 {v1 : Value} {E : String} (hd : decode (mC mi) pc = .ok (.invokevirtual idx, 3)) (hl : Cond.methodLink (mN mi).cls idx (mN y) ∈ lw_all) (hi : Cond.instanceMethod (mN y) ∈ lw_all) (hs : Cond.selects E (mN y) (mN y) ∈ lw_all) (hw : mW y ∈ lw_all) (hm : NMH (mN y).cls) (hn : NP (mN y) 1) (hrc : RC (gK G b) E) (hst : rest.length ≤ 12) :
    Mech Z mi pc 3 y G (v1 :: tR (some b) :: rest) rest [tR (some b), v1] := mech_V (As := [v1]) (rest := rest) hd hl hi hs hw hm hn hrc hst
theorem mech_V2 {v1 v2 : Value} {E : String} (hd : decode (mC mi) pc = .ok (.invokevirtual idx, 3)) (hl : Cond.methodLink (mN mi).cls idx (mN y) ∈ lw_all) (hi : Cond.instanceMethod (mN y) ∈ lw_all) (hs : Cond.selects E (mN y) (mN y) ∈ lw_all) (hw : mW y ∈ lw_all) (hm : NMH (mN y).cls) (hn : NP (mN y) 2) (hrc : RC (gK G b) E) (hst : rest.length ≤ 12) :
    Mech Z mi pc 3 y G (v2 :: v1 :: tR (some b) :: rest) rest [tR (some b), v1, v2] := mech_V (As := [v1, v2]) (rest := rest) hd hl hi hs hw hm hn hrc hst
theorem mech_V3 {v1 v2 v3 : Value} {E : String} (hd : decode (mC mi) pc = .ok (.invokevirtual idx, 3)) (hl : Cond.methodLink (mN mi).cls idx (mN y) ∈ lw_all) (hi : Cond.instanceMethod (mN y) ∈ lw_all) (hs : Cond.selects E (mN y) (mN y) ∈ lw_all) (hw : mW y ∈ lw_all) (hm : NMH (mN y).cls) (hn : NP (mN y) 3) (hrc : RC (gK G b) E) (hst : rest.length ≤ 12) :
    Mech Z mi pc 3 y G (v3 :: v2 :: v1 :: tR (some b) :: rest) rest [tR (some b), v1, v2, v3] := mech_V (As := [v1, v2, v3]) (rest := rest) hd hl hi hs hw hm hn hrc hst
theorem mech_V4 {v1 v2 v3 v4 : Value} {E : String} (hd : decode (mC mi) pc = .ok (.invokevirtual idx, 3)) (hl : Cond.methodLink (mN mi).cls idx (mN y) ∈ lw_all) (hi : Cond.instanceMethod (mN y) ∈ lw_all) (hs : Cond.selects E (mN y) (mN y) ∈ lw_all) (hw : mW y ∈ lw_all) (hm : NMH (mN y).cls) (hn : NP (mN y) 4) (hrc : RC (gK G b) E) (hst : rest.length ≤ 12) :
    Mech Z mi pc 3 y G (v4 :: v3 :: v2 :: v1 :: tR (some b) :: rest) rest [tR (some b), v1, v2, v3, v4] := mech_V (As := [v1, v2, v3, v4]) (rest := rest) hd hl hi hs hw hm hn hrc hst
theorem mech_V5 {v1 v2 v3 v4 v5 : Value} {E : String} (hd : decode (mC mi) pc = .ok (.invokevirtual idx, 3)) (hl : Cond.methodLink (mN mi).cls idx (mN y) ∈ lw_all) (hi : Cond.instanceMethod (mN y) ∈ lw_all) (hs : Cond.selects E (mN y) (mN y) ∈ lw_all) (hw : mW y ∈ lw_all) (hm : NMH (mN y).cls) (hn : NP (mN y) 5) (hrc : RC (gK G b) E) (hst : rest.length ≤ 12) :
    Mech Z mi pc 3 y G (v5 :: v4 :: v3 :: v2 :: v1 :: tR (some b) :: rest) rest [tR (some b), v1, v2, v3, v4, v5] := mech_V (As := [v1, v2, v3, v4, v5]) (rest := rest) hd hl hi hs hw hm hn hrc hst
theorem mech_V6 {v1 v2 v3 v4 v5 v6 : Value} {E : String} (hd : decode (mC mi) pc = .ok (.invokevirtual idx, 3)) (hl : Cond.methodLink (mN mi).cls idx (mN y) ∈ lw_all) (hi : Cond.instanceMethod (mN y) ∈ lw_all) (hs : Cond.selects E (mN y) (mN y) ∈ lw_all) (hw : mW y ∈ lw_all) (hm : NMH (mN y).cls) (hn : NP (mN y) 6) (hrc : RC (gK G b) E) (hst : rest.length ≤ 12) :
    Mech Z mi pc 3 y G (v6 :: v5 :: v4 :: v3 :: v2 :: v1 :: tR (some b) :: rest) rest [tR (some b), v1, v2, v3, v4, v5, v6] := mech_V (As := [v1, v2, v3, v4, v5, v6]) (rest := rest) hd hl hi hs hw hm hn hrc hst
theorem mech_S0 (hd : decode (mC mi) pc = .ok (.invokestatic idx, 3)) (hl : Cond.methodLink (mN mi).cls idx (mN y) ∈ lw_all) (hs : Cond.static (mN y) ∈ lw_all) (hini : Cond.initialized (mN y).cls ∈ lw_all) (hw : mW y ∈ lw_all) (hm : NMH (mN y).cls) (hn : NP (mN y) 0) (hst : rest.length ≤ 12) :
    Mech Z mi pc 3 y G (rest) rest [] := mech_S (As := []) (rest := rest) hd hl hs hini hw hm hn hst
theorem mech_S1 {v1 : Value} (hd : decode (mC mi) pc = .ok (.invokestatic idx, 3)) (hl : Cond.methodLink (mN mi).cls idx (mN y) ∈ lw_all) (hs : Cond.static (mN y) ∈ lw_all) (hini : Cond.initialized (mN y).cls ∈ lw_all) (hw : mW y ∈ lw_all) (hm : NMH (mN y).cls) (hn : NP (mN y) 1) (hst : rest.length ≤ 12) :
    Mech Z mi pc 3 y G (v1 :: rest) rest [v1] := mech_S (As := [v1]) (rest := rest) hd hl hs hini hw hm hn hst
theorem mech_S2 {v1 v2 : Value} (hd : decode (mC mi) pc = .ok (.invokestatic idx, 3)) (hl : Cond.methodLink (mN mi).cls idx (mN y) ∈ lw_all) (hs : Cond.static (mN y) ∈ lw_all) (hini : Cond.initialized (mN y).cls ∈ lw_all) (hw : mW y ∈ lw_all) (hm : NMH (mN y).cls) (hn : NP (mN y) 2) (hst : rest.length ≤ 12) :
    Mech Z mi pc 3 y G (v2 :: v1 :: rest) rest [v1, v2] := mech_S (As := [v1, v2]) (rest := rest) hd hl hs hini hw hm hn hst
theorem mech_S3 {v1 v2 v3 : Value} (hd : decode (mC mi) pc = .ok (.invokestatic idx, 3)) (hl : Cond.methodLink (mN mi).cls idx (mN y) ∈ lw_all) (hs : Cond.static (mN y) ∈ lw_all) (hini : Cond.initialized (mN y).cls ∈ lw_all) (hw : mW y ∈ lw_all) (hm : NMH (mN y).cls) (hn : NP (mN y) 3) (hst : rest.length ≤ 12) :
    Mech Z mi pc 3 y G (v3 :: v2 :: v1 :: rest) rest [v1, v2, v3] := mech_S (As := [v1, v2, v3]) (rest := rest) hd hl hs hini hw hm hn hst
theorem mech_S4 {v1 v2 v3 v4 : Value} (hd : decode (mC mi) pc = .ok (.invokestatic idx, 3)) (hl : Cond.methodLink (mN mi).cls idx (mN y) ∈ lw_all) (hs : Cond.static (mN y) ∈ lw_all) (hini : Cond.initialized (mN y).cls ∈ lw_all) (hw : mW y ∈ lw_all) (hm : NMH (mN y).cls) (hn : NP (mN y) 4) (hst : rest.length ≤ 12) :
    Mech Z mi pc 3 y G (v4 :: v3 :: v2 :: v1 :: rest) rest [v1, v2, v3, v4] := mech_S (As := [v1, v2, v3, v4]) (rest := rest) hd hl hs hini hw hm hn hst
theorem mech_S5 {v1 v2 v3 v4 v5 : Value} (hd : decode (mC mi) pc = .ok (.invokestatic idx, 3)) (hl : Cond.methodLink (mN mi).cls idx (mN y) ∈ lw_all) (hs : Cond.static (mN y) ∈ lw_all) (hini : Cond.initialized (mN y).cls ∈ lw_all) (hw : mW y ∈ lw_all) (hm : NMH (mN y).cls) (hn : NP (mN y) 5) (hst : rest.length ≤ 12) :
    Mech Z mi pc 3 y G (v5 :: v4 :: v3 :: v2 :: v1 :: rest) rest [v1, v2, v3, v4, v5] := mech_S (As := [v1, v2, v3, v4, v5]) (rest := rest) hd hl hs hini hw hm hn hst
theorem mech_S6 {v1 v2 v3 v4 v5 v6 : Value} (hd : decode (mC mi) pc = .ok (.invokestatic idx, 3)) (hl : Cond.methodLink (mN mi).cls idx (mN y) ∈ lw_all) (hs : Cond.static (mN y) ∈ lw_all) (hini : Cond.initialized (mN y).cls ∈ lw_all) (hw : mW y ∈ lw_all) (hm : NMH (mN y).cls) (hn : NP (mN y) 6) (hst : rest.length ≤ 12) :
    Mech Z mi pc 3 y G (v6 :: v5 :: v4 :: v3 :: v2 :: v1 :: rest) rest [v1, v2, v3, v4, v5, v6] := mech_S (As := [v1, v2, v3, v4, v5, v6]) (rest := rest) hd hl hs hini hw hm hn hst
theorem mech_S7 {v1 v2 v3 v4 v5 v6 v7 : Value} (hd : decode (mC mi) pc = .ok (.invokestatic idx, 3)) (hl : Cond.methodLink (mN mi).cls idx (mN y) ∈ lw_all) (hs : Cond.static (mN y) ∈ lw_all) (hini : Cond.initialized (mN y).cls ∈ lw_all) (hw : mW y ∈ lw_all) (hm : NMH (mN y).cls) (hn : NP (mN y) 7) (hst : rest.length ≤ 12) :
    Mech Z mi pc 3 y G (v7 :: v6 :: v5 :: v4 :: v3 :: v2 :: v1 :: rest) rest [v1, v2, v3, v4, v5, v6, v7] := mech_S (As := [v1, v2, v3, v4, v5, v6, v7]) (rest := rest) hd hl hs hini hw hm hn hst
theorem mech_SN0 {host : String} (hd : decode (mC mi) pc = .ok (.invokestatic idx, 3)) (hl : Cond.methodLinkNest (mN mi).cls idx (mN y) host ∈ lw_tbl) (hs : Cond.static (mN y) ∈ lw_all) (hini : Cond.initialized (mN y).cls ∈ lw_all) (hw : mW y ∈ lw_all) (hH : mH y = []) (hm : NMH (mN y).cls) (hn : NP (mN y) 0) (hst : rest.length ≤ 12) :
    Mech Z mi pc 3 y G (rest) rest [] := mech_SN (As := []) (rest := rest) hd hl hs hini hw hH hm hn hst
theorem mech_SN1 {v1 : Value} {host : String} (hd : decode (mC mi) pc = .ok (.invokestatic idx, 3)) (hl : Cond.methodLinkNest (mN mi).cls idx (mN y) host ∈ lw_tbl) (hs : Cond.static (mN y) ∈ lw_all) (hini : Cond.initialized (mN y).cls ∈ lw_all) (hw : mW y ∈ lw_all) (hH : mH y = []) (hm : NMH (mN y).cls) (hn : NP (mN y) 1) (hst : rest.length ≤ 12) :
    Mech Z mi pc 3 y G (v1 :: rest) rest [v1] := mech_SN (As := [v1]) (rest := rest) hd hl hs hini hw hH hm hn hst
theorem mech_SN2 {v1 v2 : Value} {host : String} (hd : decode (mC mi) pc = .ok (.invokestatic idx, 3)) (hl : Cond.methodLinkNest (mN mi).cls idx (mN y) host ∈ lw_tbl) (hs : Cond.static (mN y) ∈ lw_all) (hini : Cond.initialized (mN y).cls ∈ lw_all) (hw : mW y ∈ lw_all) (hH : mH y = []) (hm : NMH (mN y).cls) (hn : NP (mN y) 2) (hst : rest.length ≤ 12) :
    Mech Z mi pc 3 y G (v2 :: v1 :: rest) rest [v1, v2] := mech_SN (As := [v1, v2]) (rest := rest) hd hl hs hini hw hH hm hn hst
theorem mech_SN3 {v1 v2 v3 : Value} {host : String} (hd : decode (mC mi) pc = .ok (.invokestatic idx, 3)) (hl : Cond.methodLinkNest (mN mi).cls idx (mN y) host ∈ lw_tbl) (hs : Cond.static (mN y) ∈ lw_all) (hini : Cond.initialized (mN y).cls ∈ lw_all) (hw : mW y ∈ lw_all) (hH : mH y = []) (hm : NMH (mN y).cls) (hn : NP (mN y) 3) (hst : rest.length ≤ 12) :
    Mech Z mi pc 3 y G (v3 :: v2 :: v1 :: rest) rest [v1, v2, v3] := mech_SN (As := [v1, v2, v3]) (rest := rest) hd hl hs hini hw hH hm hn hst
theorem mech_I0 (hd : decode (mC mi) pc = .ok (.invokespecial idx, 3)) (hl : Cond.methodLink (mN mi).cls idx (mN y) ∈ lw_all) (hi : Cond.instanceMethod (mN y) ∈ lw_all) (hw : mW y ∈ lw_all) (hnm : (mN y).name = "<init>") (hH : mH y = []) (hr : mR y = none) (hm : NMH (mN y).cls) (hn : NP (mN y) 0) (hst : rest.length ≤ 12) :
    Mech Z mi pc 3 y G (tR (some b) :: rest) rest [tR (some b)] := mech_I (As := []) (rest := rest) hd hl hi hw hnm hH hr hm hn hst
theorem mech_I1 {v1 : Value} (hd : decode (mC mi) pc = .ok (.invokespecial idx, 3)) (hl : Cond.methodLink (mN mi).cls idx (mN y) ∈ lw_all) (hi : Cond.instanceMethod (mN y) ∈ lw_all) (hw : mW y ∈ lw_all) (hnm : (mN y).name = "<init>") (hH : mH y = []) (hr : mR y = none) (hm : NMH (mN y).cls) (hn : NP (mN y) 1) (hst : rest.length ≤ 12) :
    Mech Z mi pc 3 y G (v1 :: tR (some b) :: rest) rest [tR (some b), v1] := mech_I (As := [v1]) (rest := rest) hd hl hi hw hnm hH hr hm hn hst
theorem mech_I2 {v1 v2 : Value} (hd : decode (mC mi) pc = .ok (.invokespecial idx, 3)) (hl : Cond.methodLink (mN mi).cls idx (mN y) ∈ lw_all) (hi : Cond.instanceMethod (mN y) ∈ lw_all) (hw : mW y ∈ lw_all) (hnm : (mN y).name = "<init>") (hH : mH y = []) (hr : mR y = none) (hm : NMH (mN y).cls) (hn : NP (mN y) 2) (hst : rest.length ≤ 12) :
    Mech Z mi pc 3 y G (v2 :: v1 :: tR (some b) :: rest) rest [tR (some b), v1, v2] := mech_I (As := [v1, v2]) (rest := rest) hd hl hi hw hnm hH hr hm hn hst
theorem mech_I3 {v1 v2 v3 : Value} (hd : decode (mC mi) pc = .ok (.invokespecial idx, 3)) (hl : Cond.methodLink (mN mi).cls idx (mN y) ∈ lw_all) (hi : Cond.instanceMethod (mN y) ∈ lw_all) (hw : mW y ∈ lw_all) (hnm : (mN y).name = "<init>") (hH : mH y = []) (hr : mR y = none) (hm : NMH (mN y).cls) (hn : NP (mN y) 3) (hst : rest.length ≤ 12) :
    Mech Z mi pc 3 y G (v3 :: v2 :: v1 :: tR (some b) :: rest) rest [tR (some b), v1, v2, v3] := mech_I (As := [v1, v2, v3]) (rest := rest) hd hl hi hw hnm hH hr hm hn hst
theorem mech_I4 {v1 v2 v3 v4 : Value} (hd : decode (mC mi) pc = .ok (.invokespecial idx, 3)) (hl : Cond.methodLink (mN mi).cls idx (mN y) ∈ lw_all) (hi : Cond.instanceMethod (mN y) ∈ lw_all) (hw : mW y ∈ lw_all) (hnm : (mN y).name = "<init>") (hH : mH y = []) (hr : mR y = none) (hm : NMH (mN y).cls) (hn : NP (mN y) 4) (hst : rest.length ≤ 12) :
    Mech Z mi pc 3 y G (v4 :: v3 :: v2 :: v1 :: tR (some b) :: rest) rest [tR (some b), v1, v2, v3, v4] := mech_I (As := [v1, v2, v3, v4]) (rest := rest) hd hl hi hw hnm hH hr hm hn hst
theorem mech_I5 {v1 v2 v3 v4 v5 : Value} (hd : decode (mC mi) pc = .ok (.invokespecial idx, 3)) (hl : Cond.methodLink (mN mi).cls idx (mN y) ∈ lw_all) (hi : Cond.instanceMethod (mN y) ∈ lw_all) (hw : mW y ∈ lw_all) (hnm : (mN y).name = "<init>") (hH : mH y = []) (hr : mR y = none) (hm : NMH (mN y).cls) (hn : NP (mN y) 5) (hst : rest.length ≤ 12) :
    Mech Z mi pc 3 y G (v5 :: v4 :: v3 :: v2 :: v1 :: tR (some b) :: rest) rest [tR (some b), v1, v2, v3, v4, v5] := mech_I (As := [v1, v2, v3, v4, v5]) (rest := rest) hd hl hi hw hnm hH hr hm hn hst
theorem mech_I6 {v1 v2 v3 v4 v5 v6 : Value} (hd : decode (mC mi) pc = .ok (.invokespecial idx, 3)) (hl : Cond.methodLink (mN mi).cls idx (mN y) ∈ lw_all) (hi : Cond.instanceMethod (mN y) ∈ lw_all) (hw : mW y ∈ lw_all) (hnm : (mN y).name = "<init>") (hH : mH y = []) (hr : mR y = none) (hm : NMH (mN y).cls) (hn : NP (mN y) 6) (hst : rest.length ≤ 12) :
    Mech Z mi pc 3 y G (v6 :: v5 :: v4 :: v3 :: v2 :: v1 :: tR (some b) :: rest) rest [tR (some b), v1, v2, v3, v4, v5, v6] := mech_I (As := [v1, v2, v3, v4, v5, v6]) (rest := rest) hd hl hi hw hnm hH hr hm hn hst
theorem mech_IN0 {host : String} (hd : decode (mC mi) pc = .ok (.invokespecial idx, 3)) (hl : Cond.methodLinkNest (mN mi).cls idx (mN y) host ∈ lw_tbl) (hi : Cond.instanceMethod (mN y) ∈ lw_all) (hw : mW y ∈ lw_all) (hnm : (mN y).name = "<init>") (hH : mH y = []) (hr : mR y = none) (hm : NMH (mN y).cls) (hn : NP (mN y) 0) (hst : rest.length ≤ 12) :
    Mech Z mi pc 3 y G (tR (some b) :: rest) rest [tR (some b)] := mech_IN (As := []) (rest := rest) hd hl hi hw hnm hH hr hm hn hst
theorem mech_IN1 {v1 : Value} {host : String} (hd : decode (mC mi) pc = .ok (.invokespecial idx, 3)) (hl : Cond.methodLinkNest (mN mi).cls idx (mN y) host ∈ lw_tbl) (hi : Cond.instanceMethod (mN y) ∈ lw_all) (hw : mW y ∈ lw_all) (hnm : (mN y).name = "<init>") (hH : mH y = []) (hr : mR y = none) (hm : NMH (mN y).cls) (hn : NP (mN y) 1) (hst : rest.length ≤ 12) :
    Mech Z mi pc 3 y G (v1 :: tR (some b) :: rest) rest [tR (some b), v1] := mech_IN (As := [v1]) (rest := rest) hd hl hi hw hnm hH hr hm hn hst
theorem mech_IN2 {v1 v2 : Value} {host : String} (hd : decode (mC mi) pc = .ok (.invokespecial idx, 3)) (hl : Cond.methodLinkNest (mN mi).cls idx (mN y) host ∈ lw_tbl) (hi : Cond.instanceMethod (mN y) ∈ lw_all) (hw : mW y ∈ lw_all) (hnm : (mN y).name = "<init>") (hH : mH y = []) (hr : mR y = none) (hm : NMH (mN y).cls) (hn : NP (mN y) 2) (hst : rest.length ≤ 12) :
    Mech Z mi pc 3 y G (v2 :: v1 :: tR (some b) :: rest) rest [tR (some b), v1, v2] := mech_IN (As := [v1, v2]) (rest := rest) hd hl hi hw hnm hH hr hm hn hst
theorem mech_U0 {E owner : String} {x : MethodName} (hd : decode (mC mi) pc = .ok (.invokevirtual idx, 3)) (hl : Cond.methodLink (mN mi).cls idx x ∈ lw_all) (hsame : Cond.sameMethod x.cls owner x.name x.desc ∈ lw_all) (hdecl : (∃ b0 m0 r0, Cond.instanceMethod ⟨owner, x.name, x.desc⟩ ∈ lw_all ∧ Cond.code ⟨owner, x.name, x.desc⟩ b0 m0 r0 ∈ lw_all) ∨ Cond.declares ⟨owner, x.name, x.desc⟩ ∈ lw_tbl) (hown : NMH owner)
    (hs : Cond.selects E x (mN y) ∈ lw_all) (hi : Cond.instanceMethod (mN y) ∈ lw_all) (hw : mW y ∈ lw_all) (hH : mH y = []) (hn : NP x 0) (hrc : RC (gK G b) E) (hst : rest.length ≤ 12) :
    Mech Z mi pc 3 y G (tR (some b) :: rest) rest [tR (some b)] := mech_U (As := []) (rest := rest) hd hl hsame hdecl hown hs hi hw hH hn hrc hst
theorem mech_U1 {v1 : Value} {E owner : String} {x : MethodName} (hd : decode (mC mi) pc = .ok (.invokevirtual idx, 3)) (hl : Cond.methodLink (mN mi).cls idx x ∈ lw_all) (hsame : Cond.sameMethod x.cls owner x.name x.desc ∈ lw_all) (hdecl : (∃ b0 m0 r0, Cond.instanceMethod ⟨owner, x.name, x.desc⟩ ∈ lw_all ∧ Cond.code ⟨owner, x.name, x.desc⟩ b0 m0 r0 ∈ lw_all) ∨ Cond.declares ⟨owner, x.name, x.desc⟩ ∈ lw_tbl) (hown : NMH owner)
    (hs : Cond.selects E x (mN y) ∈ lw_all) (hi : Cond.instanceMethod (mN y) ∈ lw_all) (hw : mW y ∈ lw_all) (hH : mH y = []) (hn : NP x 1) (hrc : RC (gK G b) E) (hst : rest.length ≤ 12) :
    Mech Z mi pc 3 y G (v1 :: tR (some b) :: rest) rest [tR (some b), v1] := mech_U (As := [v1]) (rest := rest) hd hl hsame hdecl hown hs hi hw hH hn hrc hst
theorem mech_U2 {v1 v2 : Value} {E owner : String} {x : MethodName} (hd : decode (mC mi) pc = .ok (.invokevirtual idx, 3)) (hl : Cond.methodLink (mN mi).cls idx x ∈ lw_all) (hsame : Cond.sameMethod x.cls owner x.name x.desc ∈ lw_all) (hdecl : (∃ b0 m0 r0, Cond.instanceMethod ⟨owner, x.name, x.desc⟩ ∈ lw_all ∧ Cond.code ⟨owner, x.name, x.desc⟩ b0 m0 r0 ∈ lw_all) ∨ Cond.declares ⟨owner, x.name, x.desc⟩ ∈ lw_tbl) (hown : NMH owner)
    (hs : Cond.selects E x (mN y) ∈ lw_all) (hi : Cond.instanceMethod (mN y) ∈ lw_all) (hw : mW y ∈ lw_all) (hH : mH y = []) (hn : NP x 2) (hrc : RC (gK G b) E) (hst : rest.length ≤ 12) :
    Mech Z mi pc 3 y G (v2 :: v1 :: tR (some b) :: rest) rest [tR (some b), v1, v2] := mech_U (As := [v1, v2]) (rest := rest) hd hl hsame hdecl hown hs hi hw hH hn hrc hst
theorem mech_U3 {v1 v2 v3 : Value} {E owner : String} {x : MethodName} (hd : decode (mC mi) pc = .ok (.invokevirtual idx, 3)) (hl : Cond.methodLink (mN mi).cls idx x ∈ lw_all) (hsame : Cond.sameMethod x.cls owner x.name x.desc ∈ lw_all) (hdecl : (∃ b0 m0 r0, Cond.instanceMethod ⟨owner, x.name, x.desc⟩ ∈ lw_all ∧ Cond.code ⟨owner, x.name, x.desc⟩ b0 m0 r0 ∈ lw_all) ∨ Cond.declares ⟨owner, x.name, x.desc⟩ ∈ lw_tbl) (hown : NMH owner)
    (hs : Cond.selects E x (mN y) ∈ lw_all) (hi : Cond.instanceMethod (mN y) ∈ lw_all) (hw : mW y ∈ lw_all) (hH : mH y = []) (hn : NP x 3) (hrc : RC (gK G b) E) (hst : rest.length ≤ 12) :
    Mech Z mi pc 3 y G (v3 :: v2 :: v1 :: tR (some b) :: rest) rest [tR (some b), v1, v2, v3] := mech_U (As := [v1, v2, v3]) (rest := rest) hd hl hsame hdecl hown hs hi hw hH hn hrc hst
theorem mech_U4 {v1 v2 v3 v4 : Value} {E owner : String} {x : MethodName} (hd : decode (mC mi) pc = .ok (.invokevirtual idx, 3)) (hl : Cond.methodLink (mN mi).cls idx x ∈ lw_all) (hsame : Cond.sameMethod x.cls owner x.name x.desc ∈ lw_all) (hdecl : (∃ b0 m0 r0, Cond.instanceMethod ⟨owner, x.name, x.desc⟩ ∈ lw_all ∧ Cond.code ⟨owner, x.name, x.desc⟩ b0 m0 r0 ∈ lw_all) ∨ Cond.declares ⟨owner, x.name, x.desc⟩ ∈ lw_tbl) (hown : NMH owner)
    (hs : Cond.selects E x (mN y) ∈ lw_all) (hi : Cond.instanceMethod (mN y) ∈ lw_all) (hw : mW y ∈ lw_all) (hH : mH y = []) (hn : NP x 4) (hrc : RC (gK G b) E) (hst : rest.length ≤ 12) :
    Mech Z mi pc 3 y G (v4 :: v3 :: v2 :: v1 :: tR (some b) :: rest) rest [tR (some b), v1, v2, v3, v4] := mech_U (As := [v1, v2, v3, v4]) (rest := rest) hd hl hsame hdecl hown hs hi hw hH hn hrc hst
theorem mech_U5 {v1 v2 v3 v4 v5 : Value} {E owner : String} {x : MethodName} (hd : decode (mC mi) pc = .ok (.invokevirtual idx, 3)) (hl : Cond.methodLink (mN mi).cls idx x ∈ lw_all) (hsame : Cond.sameMethod x.cls owner x.name x.desc ∈ lw_all) (hdecl : (∃ b0 m0 r0, Cond.instanceMethod ⟨owner, x.name, x.desc⟩ ∈ lw_all ∧ Cond.code ⟨owner, x.name, x.desc⟩ b0 m0 r0 ∈ lw_all) ∨ Cond.declares ⟨owner, x.name, x.desc⟩ ∈ lw_tbl) (hown : NMH owner)
    (hs : Cond.selects E x (mN y) ∈ lw_all) (hi : Cond.instanceMethod (mN y) ∈ lw_all) (hw : mW y ∈ lw_all) (hH : mH y = []) (hn : NP x 5) (hrc : RC (gK G b) E) (hst : rest.length ≤ 12) :
    Mech Z mi pc 3 y G (v5 :: v4 :: v3 :: v2 :: v1 :: tR (some b) :: rest) rest [tR (some b), v1, v2, v3, v4, v5] := mech_U (As := [v1, v2, v3, v4, v5]) (rest := rest) hd hl hsame hdecl hown hs hi hw hH hn hrc hst
theorem mech_F0 {E : String} {x : MethodName} {count : Nat} (hd : decode (mC mi) pc = .ok (.invokeinterface idx count, 5)) (hl : Cond.methodLink (mN mi).cls idx x ∈ lw_all) (hdecl : Cond.declares x ∈ lw_tbl) (hface : Cond.interfaceMethod x.cls x.cls x.name x.desc ∈ lw_tbl) (hpub : Cond.publicMethod (mN y) ∈ lw_tbl) (hunh : Cond.unhidden E x.name x.desc ∈ lw_tbl) (hcast : Cond.castable E x.cls ∈ lw_tbl)
    (hs : Cond.selects E x (mN y) ∈ lw_all) (hi : Cond.instanceMethod (mN y) ∈ lw_all) (hw : mW y ∈ lw_all) (hH : mH y = []) (hm : NMH x.cls) (hn : NP x 0) (hrc : RC (gK G b) E) (hst : rest.length ≤ 12) :
    Mech Z mi pc 5 y G (tR (some b) :: rest) rest [tR (some b)] := mech_F (As := []) (rest := rest) hd hl hdecl hface hpub hunh hcast hs hi hw hH hm hn hrc hst
theorem mech_F1 {v1 : Value} {E : String} {x : MethodName} {count : Nat} (hd : decode (mC mi) pc = .ok (.invokeinterface idx count, 5)) (hl : Cond.methodLink (mN mi).cls idx x ∈ lw_all) (hdecl : Cond.declares x ∈ lw_tbl) (hface : Cond.interfaceMethod x.cls x.cls x.name x.desc ∈ lw_tbl) (hpub : Cond.publicMethod (mN y) ∈ lw_tbl) (hunh : Cond.unhidden E x.name x.desc ∈ lw_tbl) (hcast : Cond.castable E x.cls ∈ lw_tbl)
    (hs : Cond.selects E x (mN y) ∈ lw_all) (hi : Cond.instanceMethod (mN y) ∈ lw_all) (hw : mW y ∈ lw_all) (hH : mH y = []) (hm : NMH x.cls) (hn : NP x 1) (hrc : RC (gK G b) E) (hst : rest.length ≤ 12) :
    Mech Z mi pc 5 y G (v1 :: tR (some b) :: rest) rest [tR (some b), v1] := mech_F (As := [v1]) (rest := rest) hd hl hdecl hface hpub hunh hcast hs hi hw hH hm hn hrc hst
theorem mech_F2 {v1 v2 : Value} {E : String} {x : MethodName} {count : Nat} (hd : decode (mC mi) pc = .ok (.invokeinterface idx count, 5)) (hl : Cond.methodLink (mN mi).cls idx x ∈ lw_all) (hdecl : Cond.declares x ∈ lw_tbl) (hface : Cond.interfaceMethod x.cls x.cls x.name x.desc ∈ lw_tbl) (hpub : Cond.publicMethod (mN y) ∈ lw_tbl) (hunh : Cond.unhidden E x.name x.desc ∈ lw_tbl) (hcast : Cond.castable E x.cls ∈ lw_tbl)
    (hs : Cond.selects E x (mN y) ∈ lw_all) (hi : Cond.instanceMethod (mN y) ∈ lw_all) (hw : mW y ∈ lw_all) (hH : mH y = []) (hm : NMH x.cls) (hn : NP x 2) (hrc : RC (gK G b) E) (hst : rest.length ≤ 12) :
    Mech Z mi pc 5 y G (v2 :: v1 :: tR (some b) :: rest) rest [tR (some b), v1, v2] := mech_F (As := [v1, v2]) (rest := rest) hd hl hdecl hface hpub hunh hcast hs hi hw hH hm hn hrc hst
end TMA
theorem kn_of {k : Nat} (h : k = 19 ∨ k = 20) : KN k "java/util/HashMap$TreeNode" := by
  rcases h with h | h
  · exact ⟨18, (RJ23, TJ23, 4), Or.inl h, rfl, List.mem_of_getElem? (i := 6) rfl⟩
  · exact ⟨19, (RJ24, TJ24, 6), Or.inl h, rfl, List.mem_of_getElem? (i := 7) rfl⟩
theorem with_v {α : Type} (x : α) {P : Prop} (h : ∀ v, x = v → P) : P := h x rfl
/-- a private method of a class above the receiver's own (y0: some other method of that class that the receiver runs) -/
theorem sel_priv {y y0 : MethodName} {s : State} {args : Array Value} {E : String} (hy : NMH y.cls) (hsel0 : (Cond.selects E y0 y0).before args s = true) (h0 : y0.cls = y.cls) (hpriv : (Cond.privateMethod y).before args s = true) (hinst : (Cond.instanceMethod y).before args s = true) : (Cond.selects E y y).before args s = true := by
  obtain ⟨c, r2, m2, hc, hf2, hn2, -, kP, hkP, hkPi⟩ := Cond.selects_spec hsel0
  obtain ⟨k, hk, -⟩ := Vm.findClass_spec hc
  obtain ⟨mk, methM, hnamed, hmethM, -, -⟩ := Cond.instanceMethod_spec hinst
  have hfound : s.methodFound? y.cls y.name y.desc = some mk := State.methodFound?_of_named hnamed hy
  have hsel : selectMethod {} s.vm c mk = .method mk := selectMethod_private hmethM (Cond.privateMethod_at hpriv mk methM hnamed hmethM)
  have hcc : m2.cls = mk.cls := by
    have e1 := findClass_of_methodNamed hn2
    have e2 := findClass_of_methodNamed hnamed
    rw [h0] at e1
    exact Option.some.inj (e1.symm.trans e2)
  rw [hcc] at hkP
  simp only [Cond.before, Cond.holds, Cond.value, hc, hfound, hnamed, hsel, hkP]
  simp [hkPi]
theorem nw_priv {x : MethodName} {s U : State} (hW : s.WarmedH U.vm) (hZ : va_Nw (.privateMethod x) s) : va_Nw (.privateMethod x) U := va_tabs rfl (rfl : (s.setVm U.vm).vm = U.vm) (by rw [Cond.privateMethod_setVm hW.alike]; exact hZ)
section TVP
variable {Z : ZT} {mi y : MI} {pc idx : Nat} {G : GH} {rest : List Value} {b : Nat}
theorem mech_VP {As : List Value} {E : String} {y0 : MethodName} (hd : decode (mC mi) pc = .ok (.invokevirtual idx, 3)) (hl : Cond.methodLink (mN mi).cls idx (mN y) ∈ lw_all) (hi : Cond.instanceMethod (mN y) ∈ lw_all) (hp : Cond.privateMethod (mN y) ∈ lw_tbl) (hs : Cond.selects E y0 y0 ∈ lw_all) (h0 : y0.cls = (mN y).cls) (hw : mW y ∈ lw_all) (hH : mH y = []) (hm : NMH (mN y).cls) (hn : NP (mN y) As.length) (hrc : RC (gK G b) E) (hst : rest.length ≤ 12) :
    Mech Z mi pc 3 y G (As.reverse ++ tR (some b) :: rest) rest (tR (some b) :: As) := by
  intro p l e R s m args below meth c H T locs cells slots ls Pre Post PostX C hR hT X hsz hK hpre
  obtain ⟨cell, w1, w2, w3⟩ := hR.recv C hrc
  have hsel := sel_priv (E := E) hm (C.wd hs args) h0 (va_Nw.use (A := args) rfl (nw_priv C.warm (va_Nw.of rfl (C.zok.1 _ hp)))) (C.wd hi args)
  obtain ⟨y1, y2, y3, y4, y5⟩ := y
  cases hH
  exact vx_callV X C.1 (C := E) (bytes := y2) (maxL := y3) (ret := y4) C.own (C.wd hl args) (C.wd hi args) hsel (C.wd (show Cond.code y1 y2 y3 y4 ∈ lw_all from hw) args) hm hK (by rw [hT]; exact w1) w2 w3 (g := F0 m pc ls _) rfl hsz (argsL := As) (rest := rest) hn rfl (f0_room hst) (by rw [C.2.1]; exact hd) hpre
theorem mech_VP0 {E : String} {y0 : MethodName} (hd : decode (mC mi) pc = .ok (.invokevirtual idx, 3)) (hl : Cond.methodLink (mN mi).cls idx (mN y) ∈ lw_all) (hi : Cond.instanceMethod (mN y) ∈ lw_all) (hp : Cond.privateMethod (mN y) ∈ lw_tbl) (hs : Cond.selects E y0 y0 ∈ lw_all) (h0 : y0.cls = (mN y).cls) (hw : mW y ∈ lw_all) (hH : mH y = []) (hm : NMH (mN y).cls) (hn : NP (mN y) 0) (hrc : RC (gK G b) E) (hst : rest.length ≤ 12) :
    Mech Z mi pc 3 y G (tR (some b) :: rest) rest [tR (some b)] := mech_VP (As := []) (rest := rest) hd hl hi hp hs h0 hw hH hm hn hrc hst
theorem mech_VP1 {v1 : Value} {E : String} {y0 : MethodName} (hd : decode (mC mi) pc = .ok (.invokevirtual idx, 3)) (hl : Cond.methodLink (mN mi).cls idx (mN y) ∈ lw_all) (hi : Cond.instanceMethod (mN y) ∈ lw_all) (hp : Cond.privateMethod (mN y) ∈ lw_tbl) (hs : Cond.selects E y0 y0 ∈ lw_all) (h0 : y0.cls = (mN y).cls) (hw : mW y ∈ lw_all) (hH : mH y = []) (hm : NMH (mN y).cls) (hn : NP (mN y) 1) (hrc : RC (gK G b) E) (hst : rest.length ≤ 12) :
    Mech Z mi pc 3 y G (v1 :: tR (some b) :: rest) rest [tR (some b), v1] := mech_VP (As := [v1]) (rest := rest) hd hl hi hp hs h0 hw hH hm hn hrc hst
theorem mech_VP2 {v1 v2 : Value} {E : String} {y0 : MethodName} (hd : decode (mC mi) pc = .ok (.invokevirtual idx, 3)) (hl : Cond.methodLink (mN mi).cls idx (mN y) ∈ lw_all) (hi : Cond.instanceMethod (mN y) ∈ lw_all) (hp : Cond.privateMethod (mN y) ∈ lw_tbl) (hs : Cond.selects E y0 y0 ∈ lw_all) (h0 : y0.cls = (mN y).cls) (hw : mW y ∈ lw_all) (hH : mH y = []) (hm : NMH (mN y).cls) (hn : NP (mN y) 2) (hrc : RC (gK G b) E) (hst : rest.length ≤ 12) :
    Mech Z mi pc 3 y G (v2 :: v1 :: tR (some b) :: rest) rest [tR (some b), v1, v2] := mech_VP (As := [v1, v2]) (rest := rest) hd hl hi hp hs h0 hw hH hm hn hrc hst
theorem mech_SU {As : List Value} {E : String} (hd : decode (mC mi) pc = .ok (.invokespecial idx, 3)) (hl : Cond.methodLink (mN mi).cls idx (mN y) ∈ lw_all) (hsame : Cond.sameMethod (mN y).cls (mN y).cls (mN y).name (mN y).desc ∈ lw_all) (hsup : Cond.superclass (mN mi).cls (mN y).cls ∈ lw_all) (hi : Cond.instanceMethod (mN y) ∈ lw_all) (hw : mW y ∈ lw_all) (hno : (mN y).name ≠ "<init>") (hH : mH y = []) (hn : NP (mN y) As.length) (hrc : RC (gK G b) E) (hst : rest.length ≤ 12) :
    Mech Z mi pc 3 y G (As.reverse ++ tR (some b) :: rest) rest (tR (some b) :: As) := by
  intro p l e R s m args below meth c H T locs cells slots ls Pre Post PostX C hR hT X hsz hK hpre
  obtain ⟨cell, w1, w2, w3⟩ := hR.recv C hrc
  obtain ⟨kB, hkB, -⟩ := Vm.findClass_spec w3
  obtain ⟨y1, y2, y3, y4, y5⟩ := y
  cases hH
  exact vx_callSU X C.1 (bytes := y2) (maxL := y3) (ret := y4) C.own (C.wd hl args) (C.wd hsame args) (C.wd hsup args) (C.wd hi args) (C.wd (show Cond.code y1 y2 y3 y4 ∈ lw_all from hw) args) hno hK (by rw [hT]; exact w1) w2 hkB (g := F0 m pc ls _) rfl hsz (argsL := As) (rest := rest) hn rfl (f0_room hst) (by rw [C.2.1]; exact hd) hpre
theorem mech_SU0 {E : String} (hd : decode (mC mi) pc = .ok (.invokespecial idx, 3)) (hl : Cond.methodLink (mN mi).cls idx (mN y) ∈ lw_all) (hsame : Cond.sameMethod (mN y).cls (mN y).cls (mN y).name (mN y).desc ∈ lw_all) (hsup : Cond.superclass (mN mi).cls (mN y).cls ∈ lw_all) (hi : Cond.instanceMethod (mN y) ∈ lw_all) (hw : mW y ∈ lw_all) (hno : (mN y).name ≠ "<init>") (hH : mH y = []) (hn : NP (mN y) 0) (hrc : RC (gK G b) E) (hst : rest.length ≤ 12) :
    Mech Z mi pc 3 y G (tR (some b) :: rest) rest [tR (some b)] := mech_SU (As := []) (rest := rest) hd hl hsame hsup hi hw hno hH hn hrc hst
theorem mech_SU1 {v1 : Value} {E : String} (hd : decode (mC mi) pc = .ok (.invokespecial idx, 3)) (hl : Cond.methodLink (mN mi).cls idx (mN y) ∈ lw_all) (hsame : Cond.sameMethod (mN y).cls (mN y).cls (mN y).name (mN y).desc ∈ lw_all) (hsup : Cond.superclass (mN mi).cls (mN y).cls ∈ lw_all) (hi : Cond.instanceMethod (mN y) ∈ lw_all) (hw : mW y ∈ lw_all) (hno : (mN y).name ≠ "<init>") (hH : mH y = []) (hn : NP (mN y) 1) (hrc : RC (gK G b) E) (hst : rest.length ≤ 12) :
    Mech Z mi pc 3 y G (v1 :: tR (some b) :: rest) rest [tR (some b), v1] := mech_SU (As := [v1]) (rest := rest) hd hl hsame hsup hi hw hno hH hn hrc hst
theorem mech_SU2 {v1 v2 : Value} {E : String} (hd : decode (mC mi) pc = .ok (.invokespecial idx, 3)) (hl : Cond.methodLink (mN mi).cls idx (mN y) ∈ lw_all) (hsame : Cond.sameMethod (mN y).cls (mN y).cls (mN y).name (mN y).desc ∈ lw_all) (hsup : Cond.superclass (mN mi).cls (mN y).cls ∈ lw_all) (hi : Cond.instanceMethod (mN y) ∈ lw_all) (hw : mW y ∈ lw_all) (hno : (mN y).name ≠ "<init>") (hH : mH y = []) (hn : NP (mN y) 2) (hrc : RC (gK G b) E) (hst : rest.length ≤ 12) :
    Mech Z mi pc 3 y G (v2 :: v1 :: tR (some b) :: rest) rest [tR (some b), v1, v2] := mech_SU (As := [v1, v2]) (rest := rest) hd hl hsame hsup hi hw hno hH hn hrc hst
end TVP
theorem inst_ke {k : Nat → Nat} {E : String} {a : Nat} (h : ∀ b, some a = some b → KE (k b) E) : KE (k a) E := h a rfl
