/-! THE TOY CALCULUS, 3: rows that leave the heap alone (printed by tools/rows1.py) -/
theorem i_add (x y : Int) : Int32.ofInt x + Int32.ofInt y = Int32.ofInt (x + y) := (Int32.ofInt_add x y).symm
theorem i_sub (x y : Int) : Int32.ofInt x - Int32.ofInt y = Int32.ofInt (x - y) := (Int32.ofInt_sub x y).symm
theorem i_mul (x y : Int) : Int32.ofInt x * Int32.ofInt y = Int32.ofInt (x * y) := (Int32.ofInt_mul x y).symm
theorem i_neg (x : Int) : -Int32.ofInt x = Int32.ofInt (-x) := (Int32.ofInt_neg x).symm
theorem l_add (x y : Int) : Int64.ofInt x + Int64.ofInt y = Int64.ofInt (x + y) := (Int64.ofInt_add x y).symm
theorem l_sub (x y : Int) : Int64.ofInt x - Int64.ofInt y = Int64.ofInt (x - y) := (Int64.ofInt_sub x y).symm
theorem l_mul (x y : Int) : Int64.ofInt x * Int64.ofInt y = Int64.ofInt (x * y) := (Int64.ofInt_mul x y).symm
abbrev inR (x : Int) : Prop := -2147483648 ≤ x ∧ x ≤ 2147483647
abbrev inL (x : Int) : Prop := -9223372036854775808 ≤ x ∧ x ≤ 9223372036854775807
theorem i_to {x : Int} (h : inR x) : (Int32.ofInt x).toInt = x := Int32.toInt_ofInt_of_le (by have := h.1; omega) (by have := h.2; omega)
theorem l_to {x : Int} (h : inL x) : (Int64.ofInt x).toInt = x := Int64.toInt_ofInt_of_le (by have := h.1; omega) (by have := h.2; omega)
theorem i_lt {x y : Int} (hx : inR x) (hy : inR y) : Int32.ofInt x < Int32.ofInt y ↔ x < y := by rw [Int32.lt_iff_toInt_lt, i_to hx, i_to hy]
theorem i_le {x y : Int} (hx : inR x) (hy : inR y) : Int32.ofInt x ≤ Int32.ofInt y ↔ x ≤ y := by rw [Int32.le_iff_toInt_le, i_to hx, i_to hy]
theorem i_eq {x y : Int} (hx : inR x) (hy : inR y) : Int32.ofInt x = Int32.ofInt y ↔ x = y := by rw [← Int32.toInt_inj, i_to hx, i_to hy]
theorem i_zero : (0 : Int32) = Int32.ofInt 0 := rfl
theorem i_nat {x : Int} (hx : inR x) : (Int32.ofInt x).toNatClampNeg = x.toNat := by rw [← Int32.toNat_toInt, i_to hx]
theorem TCx.wd {Z : ZT} {mi : MI} {p : Program} {l : Launch} {s : State} {m : MethodId} {meth : Method} {c : Code} (C : TCx Z mi p l s m meth c) {w : Cond} (h : w ∈ lw_all) (args : Array Value) : w.before args s = true := by
  obtain ⟨-, -, -, -, -, -, -, -, hW, -, hZ⟩ := C
  exact word_at hW (lw_self w h).2 (hZ.1 w (lw_all_tbl h))
theorem TCx.own {Z : ZT} {mi : MI} {p : Program} {l : Launch} {s : State} {m : MethodId} {meth : Method} {c : Code} (C : TCx Z mi p l s m meth c) : s.vm.findClass (mN mi).cls = some m.cls := C.2.2.2.2.2.1
theorem TCx.warm {Z : ZT} {mi : MI} {p : Program} {l : Launch} {s : State} {m : MethodId} {meth : Method} {c : Code} (C : TCx Z mi p l s m meth c) : (zS Z).WarmedH s.vm := C.2.2.2.2.2.2.2.2.1
theorem TCx.zok {Z : ZT} {mi : MI} {p : Program} {l : Launch} {s : State} {m : MethodId} {meth : Method} {c : Code} (C : TCx Z mi p l s m meth c) : Zok Z := C.2.2.2.2.2.2.2.2.2.2
theorem TCx.flags {Z : ZT} {mi : MI} {p : Program} {l : Launch} {s : State} {m : MethodId} {meth : Method} {c : Code} (C : TCx Z mi p l s m meth c) : l.stackTraces = false := C.2.2.2.2.2.2.2.2.2.1
theorem TCx.locks {Z : ZT} {mi : MI} {p : Program} {l : Launch} {s : State} {m : MethodId} {meth : Method} {c : Code} (C : TCx Z mi p l s m meth c) : meth.locks = false := C.2.2.2.1
theorem TCx.ret {Z : ZT} {mi : MI} {p : Program} {l : Launch} {s : State} {m : MethodId} {meth : Method} {c : Code} (C : TCx Z mi p l s m meth c) : meth.sig.returnType = mR mi := C.2.2.1
theorem TCx.ml {Z : ZT} {mi : MI} {p : Program} {l : Launch} {s : State} {m : MethodId} {meth : Method} {c : Code} (C : TCx Z mi p l s m meth c) : c.maxLocals = mL mi := C.2.2.2.2.1
theorem TCx.hand {Z : ZT} {mi : MI} {p : Program} {l : Launch} {s : State} {m : MethodId} {meth : Method} {c : Code} (C : TCx Z mi p l s m meth c) : c.exceptionTable.toList = tableOf (mH mi) := C.2.2.2.2.2.2.2.1
section TROWS
variable {Z : ZT} {mi : MI} {d pc : Nat} {lv : List (Option Value)} {st : List Value} {G : GH} {Q : TR → GH → Prop}
/-- the same place, seen otherwise -/
theorem TW.at {pc' : Nat} {lv' : List (Option Value)} {st' : List Value} {G' : GH} (k : TW Z mi d pc' lv' st' G' Q) (h1 : pc' = pc) (h2 : lv' = lv) (h3 : st' = st) (h4 : G' = G) : TW Z mi d pc lv st G Q := by subst h1 h2 h3 h4; exact k
theorem tw_iconst {n : Int} (hd : decode (mC mi) pc = .ok (.iconst n, 1)) (k : TW Z mi d (pc + 1) lv (tI n :: st) G Q) : TW Z mi d pc lv (st) G Q :=
  TW.step0 (fun p l e R s m args below meth c H locs cells slots Qf C ls hl kk => lv_iconst C.1 C.2.1 hd rfl kk) k
theorem tw_bipush {n : Int} (hd : decode (mC mi) pc = .ok (.bipush n, 2)) (hv : (Int8.ofInt n).toInt32 = Int32.ofInt n) (k : TW Z mi d (pc + 2) lv (tI n :: st) G Q) : TW Z mi d pc lv (st) G Q :=
  TW.step0 (fun p l e R s m args below meth c H locs cells slots Qf C ls hl kk => lv_bipush C.1 C.2.1 hd hv kk) k
theorem tw_sipush {n : Int} (hd : decode (mC mi) pc = .ok (.sipush n, 3)) (hv : (Int16.ofInt n).toInt32 = Int32.ofInt n) (k : TW Z mi d (pc + 3) lv (tI n :: st) G Q) : TW Z mi d pc lv (st) G Q :=
  TW.step0 (fun p l e R s m args below meth c H locs cells slots Qf C ls hl kk => lv_sipush C.1 C.2.1 hd hv kk) k
theorem tw_lconst {n : Fin 2} {x : Int} (hd : decode (mC mi) pc = .ok (.lconst n, 1)) (hv : Int64.ofNat (n : Nat) = Int64.ofInt x) (k : TW Z mi d (pc + 1) lv (tL x :: st) G Q) : TW Z mi d pc lv (st) G Q :=
  TW.step0 (fun p l e R s m args below meth c H locs cells slots Qf C ls hl kk => lv_lconst C.1 C.2.1 hd hv kk) k
theorem tw_null (hd : decode (mC mi) pc = .ok (.aconst_null, 1)) (k : TW Z mi d (pc + 1) lv (tR none :: st) G Q) : TW Z mi d pc lv (st) G Q :=
  TW.step0 (fun p l e R s m args below meth c H locs cells slots Qf C ls hl kk => lv_null C.1 C.2.1 hd kk) k
theorem tw_ldc {idx : Nat} {v : Int32} {x : Int} (hd : decode (mC mi) pc = .ok (.ldc idx, 2)) (hw : Cond.constant (mN mi).cls idx v ∈ lw_all) (hv : Int32.ofInt x = v) (k : TW Z mi d (pc + 2) lv (tI x :: st) G Q) : TW Z mi d pc lv (st) G Q :=
  TW.step0 (fun p l e R s m args below meth c H locs cells slots Qf C ls hl kk => lv_ldc C.1 C.2.1 C.own (C.wd hw args) hd (by subst hv; exact kk)) k
theorem tw_ldcw {idx : Nat} {v : Int32} {x : Int} (hd : decode (mC mi) pc = .ok (.ldc_w idx, 3)) (hw : Cond.constant (mN mi).cls idx v ∈ lw_all) (hv : Int32.ofInt x = v) (k : TW Z mi d (pc + 3) lv (tI x :: st) G Q) : TW Z mi d pc lv (st) G Q :=
  TW.step0 (fun p l e R s m args below meth c H locs cells slots Qf C ls hl kk => lv_ldcw C.1 C.2.1 C.own (C.wd hw args) hd (by subst hv; exact kk)) k
theorem tw_ldc2 {idx : Nat} {v : Int64} {x : Int} (hd : decode (mC mi) pc = .ok (.ldc2_w idx, 3)) (hw : Cond.constantLong (mN mi).cls idx v ∈ lw_all) (hv : Int64.ofInt x = v) (k : TW Z mi d (pc + 3) lv (tL x :: st) G Q) : TW Z mi d pc lv (st) G Q :=
  TW.step0 (fun p l e R s m args below meth c H locs cells slots Qf C ls hl kk => lv_ldc2 C.1 C.2.1 C.own (C.wd hw args) hd (by subst hv; exact kk)) k
theorem tw_ldcf {idx : Nat} {v : UInt32} (hd : decode (mC mi) pc = .ok (.ldc idx, 2)) (hw : Cond.constantFloat (mN mi).cls idx v ∈ lw_all) (k : TW Z mi d (pc + 2) lv (.float v :: st) G Q) : TW Z mi d pc lv (st) G Q :=
  TW.step0 (fun p l e R s m args below meth c H locs cells slots Qf C ls hl kk => lv_ldcf C.1 C.2.1 C.own (C.wd hw args) hd kk) k
theorem tw_fconst0 (hd : decode (mC mi) pc = .ok (.fconst 0, 1)) (k : TW Z mi d (pc + 1) lv (.float FP.fconst0 :: st) G Q) : TW Z mi d pc lv (st) G Q :=
  TW.step0 (fun p l e R s m args below meth c H locs cells slots Qf C ls hl kk => lv_fconst0 C.1 C.2.1 hd kk) k
theorem tw_dconst0 (hd : decode (mC mi) pc = .ok (.dconst 0, 1)) (k : TW Z mi d (pc + 1) lv (.double FP.dconst0 :: st) G Q) : TW Z mi d pc lv (st) G Q :=
  TW.step0 (fun p l e R s m args below meth c H locs cells slots Qf C ls hl kk => lv_dconst0 C.1 C.2.1 hd kk) k
theorem tw_iload_n {k4 : Fin 4} {x : Int} (hd : decode (mC mi) pc = .ok (.iload_n k4, 1)) (hv : lv[(k4 : Nat)]? = some (some (tI x))) (k : TW Z mi d (pc + 1) lv (tI x :: st) G Q) : TW Z mi d pc lv (st) G Q :=
  TW.step0 (fun p l e R s m args below meth c H locs cells slots Qf C ls hl kk => lv_iload_n C.1 C.2.1 hd rfl (lvh_get hl hv) kk) k
theorem tw_iload {i : Nat} {x : Int} (hd : decode (mC mi) pc = .ok (.iload i, 2)) (hv : lv[i]? = some (some (tI x))) (k : TW Z mi d (pc + 2) lv (tI x :: st) G Q) : TW Z mi d pc lv (st) G Q :=
  TW.step0 (fun p l e R s m args below meth c H locs cells slots Qf C ls hl kk => lv_iload C.1 C.2.1 hd (lvh_get hl hv) kk) k
theorem tw_lload_n {k4 : Fin 4} {x : Int} (hd : decode (mC mi) pc = .ok (.lload_n k4, 1)) (hv : lv[(k4 : Nat)]? = some (some (tL x))) (k : TW Z mi d (pc + 1) lv (tL x :: st) G Q) : TW Z mi d pc lv (st) G Q :=
  TW.step0 (fun p l e R s m args below meth c H locs cells slots Qf C ls hl kk => lv_lload_n C.1 C.2.1 hd rfl (lvh_get hl hv) kk) k
theorem tw_lload {i : Nat} {x : Int} (hd : decode (mC mi) pc = .ok (.lload i, 2)) (hv : lv[i]? = some (some (tL x))) (k : TW Z mi d (pc + 2) lv (tL x :: st) G Q) : TW Z mi d pc lv (st) G Q :=
  TW.step0 (fun p l e R s m args below meth c H locs cells slots Qf C ls hl kk => lv_lload C.1 C.2.1 hd (lvh_get hl hv) kk) k
theorem tw_dload_n {k4 : Fin 4} {x : UInt64} (hd : decode (mC mi) pc = .ok (.dload_n k4, 1)) (hv : lv[(k4 : Nat)]? = some (some (.double x))) (k : TW Z mi d (pc + 1) lv (.double x :: st) G Q) : TW Z mi d pc lv (st) G Q :=
  TW.step0 (fun p l e R s m args below meth c H locs cells slots Qf C ls hl kk => lv_dload_n C.1 C.2.1 hd rfl (lvh_get hl hv) kk) k
theorem tw_dload {i : Nat} {x : UInt64} (hd : decode (mC mi) pc = .ok (.dload i, 2)) (hv : lv[i]? = some (some (.double x))) (k : TW Z mi d (pc + 2) lv (.double x :: st) G Q) : TW Z mi d pc lv (st) G Q :=
  TW.step0 (fun p l e R s m args below meth c H locs cells slots Qf C ls hl kk => lv_dload C.1 C.2.1 hd (lvh_get hl hv) kk) k
theorem tw_fload_n {k4 : Fin 4} {x : UInt32} (hd : decode (mC mi) pc = .ok (.fload_n k4, 1)) (hv : lv[(k4 : Nat)]? = some (some (.float x))) (k : TW Z mi d (pc + 1) lv (.float x :: st) G Q) : TW Z mi d pc lv (st) G Q :=
  TW.step0 (fun p l e R s m args below meth c H locs cells slots Qf C ls hl kk => lv_fload_n C.1 C.2.1 hd rfl (lvh_get hl hv) kk) k
theorem tw_fload {i : Nat} {x : UInt32} (hd : decode (mC mi) pc = .ok (.fload i, 2)) (hv : lv[i]? = some (some (.float x))) (k : TW Z mi d (pc + 2) lv (.float x :: st) G Q) : TW Z mi d pc lv (st) G Q :=
  TW.step0 (fun p l e R s m args below meth c H locs cells slots Qf C ls hl kk => lv_fload C.1 C.2.1 hd (lvh_get hl hv) kk) k
theorem tw_aload_n {k4 : Fin 4} {r : Option Nat} (hd : decode (mC mi) pc = .ok (.aload_n k4, 1)) (hv : lv[(k4 : Nat)]? = some (some (tR r))) (k : TW Z mi d (pc + 1) lv (tR r :: st) G Q) : TW Z mi d pc lv st G Q := by
  cases r with
  | none => exact TW.step0 (fun p l e R s m args below meth c H locs cells slots Qf C ls hl kk => lv_aload_nN C.1 C.2.1 hd rfl (lvh_get hl hv) kk) k
  | some a => exact TW.step0 (fun p l e R s m args below meth c H locs cells slots Qf C ls hl kk => lv_aload_n C.1 C.2.1 hd rfl (lvh_get hl hv) kk) k
theorem tw_aload {i : Nat} {r : Option Nat} (hd : decode (mC mi) pc = .ok (.aload i, 2)) (hv : lv[i]? = some (some (tR r))) (k : TW Z mi d (pc + 2) lv (tR r :: st) G Q) : TW Z mi d pc lv st G Q := by
  cases r with
  | none => exact TW.step0 (fun p l e R s m args below meth c H locs cells slots Qf C ls hl kk => lv_aloadN C.1 C.2.1 hd (lvh_get hl hv) kk) k
  | some a => exact TW.step0 (fun p l e R s m args below meth c H locs cells slots Qf C ls hl kk => lv_aload C.1 C.2.1 hd (lvh_get hl hv) kk) k
theorem tw_istore_n {k4 : Fin 4} {x : Int} (hd : decode (mC mi) pc = .ok (.istore_n k4, 1)) (hi : (k4 : Nat) < mL mi) (hlow : ∀ w, 0 < (k4 : Nat) → lv[(k4 : Nat) - 1]? = some (some w) → w.category = 1) (k : TW Z mi d (pc + 1) (lv.set (k4 : Nat) (some (tI x))) st G Q) : TW Z mi d pc lv (tI x :: st) G Q :=
  TW.step (fun p l e R s m args below meth c H locs cells slots Qf C ls hl kk => lv_istore_n C.1 C.2.1 hd rfl hl hi rfl (fun ls1 hl1 => kk ls1 (lvh_of hl1 (fun q hq => lvh_set1 hlow hq)))) k
theorem tw_istore {i : Nat} {x : Int} (hd : decode (mC mi) pc = .ok (.istore i, 2)) (hi : i < mL mi) (hlow : ∀ w, 0 < i → lv[i - 1]? = some (some w) → w.category = 1) (k : TW Z mi d (pc + 2) (lv.set i (some (tI x))) st G Q) : TW Z mi d pc lv (tI x :: st) G Q :=
  TW.step (fun p l e R s m args below meth c H locs cells slots Qf C ls hl kk => lv_istore C.1 C.2.1 hd hl hi rfl (fun ls1 hl1 => kk ls1 (lvh_of hl1 (fun q hq => lvh_set1 hlow hq)))) k
theorem tw_lstore_n {k4 : Fin 4} {x : Int} (hd : decode (mC mi) pc = .ok (.lstore_n k4, 1)) (hi : (k4 : Nat) + 1 < mL mi) (hlow : ∀ w, 0 < (k4 : Nat) → lv[(k4 : Nat) - 1]? = some (some w) → w.category = 1) (k : TW Z mi d (pc + 1) ((lv.set (k4 : Nat) (some (tL x))).set ((k4 : Nat) + 1) none) st G Q) : TW Z mi d pc lv (tL x :: st) G Q :=
  TW.step (fun p l e R s m args below meth c H locs cells slots Qf C ls hl kk => lv_lstore_n C.1 C.2.1 hd rfl hl hi rfl (fun ls1 hl1 => kk ls1 (lvh_of hl1 (fun q hq => lvh_set2 hlow hq)))) k
theorem tw_lstore {i : Nat} {x : Int} (hd : decode (mC mi) pc = .ok (.lstore i, 2)) (hi : i + 1 < mL mi) (hlow : ∀ w, 0 < i → lv[i - 1]? = some (some w) → w.category = 1) (k : TW Z mi d (pc + 2) ((lv.set i (some (tL x))).set (i + 1) none) st G Q) : TW Z mi d pc lv (tL x :: st) G Q :=
  TW.step (fun p l e R s m args below meth c H locs cells slots Qf C ls hl kk => lv_lstore C.1 C.2.1 hd hl hi rfl (fun ls1 hl1 => kk ls1 (lvh_of hl1 (fun q hq => lvh_set2 hlow hq)))) k
theorem tw_fstore_n {k4 : Fin 4} {x : UInt32} (hd : decode (mC mi) pc = .ok (.fstore_n k4, 1)) (hi : (k4 : Nat) < mL mi) (hlow : ∀ w, 0 < (k4 : Nat) → lv[(k4 : Nat) - 1]? = some (some w) → w.category = 1) (k : TW Z mi d (pc + 1) (lv.set (k4 : Nat) (some (.float x))) st G Q) : TW Z mi d pc lv (.float x :: st) G Q :=
  TW.step (fun p l e R s m args below meth c H locs cells slots Qf C ls hl kk => lv_fstore_n C.1 C.2.1 hd rfl hl hi rfl (fun ls1 hl1 => kk ls1 (lvh_of hl1 (fun q hq => lvh_set1 hlow hq)))) k
theorem tw_fstore {i : Nat} {x : UInt32} (hd : decode (mC mi) pc = .ok (.fstore i, 2)) (hi : i < mL mi) (hlow : ∀ w, 0 < i → lv[i - 1]? = some (some w) → w.category = 1) (k : TW Z mi d (pc + 2) (lv.set i (some (.float x))) st G Q) : TW Z mi d pc lv (.float x :: st) G Q :=
  TW.step (fun p l e R s m args below meth c H locs cells slots Qf C ls hl kk => lv_fstore C.1 C.2.1 hd hl hi rfl (fun ls1 hl1 => kk ls1 (lvh_of hl1 (fun q hq => lvh_set1 hlow hq)))) k
theorem tw_dstore_n {k4 : Fin 4} {x : UInt64} (hd : decode (mC mi) pc = .ok (.dstore_n k4, 1)) (hi : (k4 : Nat) + 1 < mL mi) (hlow : ∀ w, 0 < (k4 : Nat) → lv[(k4 : Nat) - 1]? = some (some w) → w.category = 1) (k : TW Z mi d (pc + 1) ((lv.set (k4 : Nat) (some (.double x))).set ((k4 : Nat) + 1) none) st G Q) : TW Z mi d pc lv (.double x :: st) G Q :=
  TW.step (fun p l e R s m args below meth c H locs cells slots Qf C ls hl kk => lv_dstore_n C.1 C.2.1 hd rfl hl hi rfl (fun ls1 hl1 => kk ls1 (lvh_of hl1 (fun q hq => lvh_set2 hlow hq)))) k
theorem tw_dstore {i : Nat} {x : UInt64} (hd : decode (mC mi) pc = .ok (.dstore i, 2)) (hi : i + 1 < mL mi) (hlow : ∀ w, 0 < i → lv[i - 1]? = some (some w) → w.category = 1) (k : TW Z mi d (pc + 2) ((lv.set i (some (.double x))).set (i + 1) none) st G Q) : TW Z mi d pc lv (.double x :: st) G Q :=
  TW.step (fun p l e R s m args below meth c H locs cells slots Qf C ls hl kk => lv_dstore C.1 C.2.1 hd hl hi rfl (fun ls1 hl1 => kk ls1 (lvh_of hl1 (fun q hq => lvh_set2 hlow hq)))) k
theorem tw_astore_n {k4 : Fin 4} {r : Option Nat} (hd : decode (mC mi) pc = .ok (.astore_n k4, 1)) (hi : (k4 : Nat) < mL mi) (hlow : ∀ w, 0 < (k4 : Nat) → lv[(k4 : Nat) - 1]? = some (some w) → w.category = 1) (k : TW Z mi d (pc + 1) (lv.set (k4 : Nat) (some (tR r))) st G Q) : TW Z mi d pc lv (tR r :: st) G Q := by
  cases r with
  | none => exact TW.step (fun p l e R s m args below meth c H locs cells slots Qf C ls hl kk => lv_astore_nN C.1 C.2.1 hd rfl hl hi rfl (fun ls1 hl1 => kk ls1 (lvh_of hl1 (fun q hq => lvh_set1 hlow hq)))) k
  | some a => exact TW.step (fun p l e R s m args below meth c H locs cells slots Qf C ls hl kk => lv_astore_n C.1 C.2.1 hd rfl hl hi rfl (fun ls1 hl1 => kk ls1 (lvh_of hl1 (fun q hq => lvh_set1 hlow hq)))) k
theorem tw_astore {i : Nat} {r : Option Nat} (hd : decode (mC mi) pc = .ok (.astore i, 2)) (hi : i < mL mi) (hlow : ∀ w, 0 < i → lv[i - 1]? = some (some w) → w.category = 1) (k : TW Z mi d (pc + 2) (lv.set i (some (tR r))) st G Q) : TW Z mi d pc lv (tR r :: st) G Q := by
  cases r with
  | none => exact TW.step (fun p l e R s m args below meth c H locs cells slots Qf C ls hl kk => lv_astoreN C.1 C.2.1 hd hl hi rfl (fun ls1 hl1 => kk ls1 (lvh_of hl1 (fun q hq => lvh_set1 hlow hq)))) k
  | some a => exact TW.step (fun p l e R s m args below meth c H locs cells slots Qf C ls hl kk => lv_astore C.1 C.2.1 hd hl hi rfl (fun ls1 hl1 => kk ls1 (lvh_of hl1 (fun q hq => lvh_set1 hlow hq)))) k
theorem tw_iinc {i : Nat} {n x : Int} (hd : decode (mC mi) pc = .ok (.iinc i n, 3)) (hv : lv[i]? = some (some (tI x))) (hi : i < mL mi) (hlow : ∀ w, 0 < i → lv[i - 1]? = some (some w) → w.category = 1) (k : TW Z mi d (pc + 3) (lv.set i (some (tI (x + n)))) st G Q) : TW Z mi d pc lv st G Q :=
  TW.step (fun p l e R s m args below meth c H locs cells slots Qf C ls hl kk => by
    obtain ⟨k0, hk0⟩ := List.getElem?_of_mem (mem_asc.mpr ⟨i, hv, (Nat.zero_add i).symm⟩ : (i, tI x) ∈ asc 0 lv)
    exact lv_iinc C.1 C.2.1 hd hl hk0 (i_add x n) hi rfl (fun ls1 hl1 => kk ls1 (lvh_of hl1 (fun q hq => lvh_set1 hlow hq)))) k
theorem tw_iadd {x y : Int} (hd : decode (mC mi) pc = .ok (.iadd, 1)) (k : TW Z mi d (pc + 1) lv (tI (x + y) :: st) G Q) : TW Z mi d pc lv (tI y :: tI x :: st) G Q :=
  TW.step0 (fun p l e R s m args below meth c H locs cells slots Qf C ls hl kk => lv_iadd C.1 C.2.1 hd (by rw [i_add]; exact kk)) k
theorem tw_isub {x y : Int} (hd : decode (mC mi) pc = .ok (.isub, 1)) (k : TW Z mi d (pc + 1) lv (tI (x - y) :: st) G Q) : TW Z mi d pc lv (tI y :: tI x :: st) G Q :=
  TW.step0 (fun p l e R s m args below meth c H locs cells slots Qf C ls hl kk => lv_isub C.1 C.2.1 hd (by rw [i_sub]; exact kk)) k
theorem tw_imul {x y : Int} (hd : decode (mC mi) pc = .ok (.imul, 1)) (k : TW Z mi d (pc + 1) lv (tI (x * y) :: st) G Q) : TW Z mi d pc lv (tI y :: tI x :: st) G Q :=
  TW.step0 (fun p l e R s m args below meth c H locs cells slots Qf C ls hl kk => lv_imul C.1 C.2.1 hd (by rw [i_mul]; exact kk)) k
theorem tw_ladd {x y : Int} (hd : decode (mC mi) pc = .ok (.ladd, 1)) (k : TW Z mi d (pc + 1) lv (tL (x + y) :: st) G Q) : TW Z mi d pc lv (tL y :: tL x :: st) G Q :=
  TW.step0 (fun p l e R s m args below meth c H locs cells slots Qf C ls hl kk => lv_ladd C.1 C.2.1 hd (by rw [l_add]; exact kk)) k
theorem tw_lsub {x y : Int} (hd : decode (mC mi) pc = .ok (.lsub, 1)) (k : TW Z mi d (pc + 1) lv (tL (x - y) :: st) G Q) : TW Z mi d pc lv (tL y :: tL x :: st) G Q :=
  TW.step0 (fun p l e R s m args below meth c H locs cells slots Qf C ls hl kk => lv_lsub C.1 C.2.1 hd (by rw [l_sub]; exact kk)) k
theorem tw_lmul {x y : Int} (hd : decode (mC mi) pc = .ok (.lmul, 1)) (k : TW Z mi d (pc + 1) lv (tL (x * y) :: st) G Q) : TW Z mi d pc lv (tL y :: tL x :: st) G Q :=
  TW.step0 (fun p l e R s m args below meth c H locs cells slots Qf C ls hl kk => lv_lmul C.1 C.2.1 hd (by rw [l_mul]; exact kk)) k
theorem tw_ineg {x : Int} (hd : decode (mC mi) pc = .ok (.ineg, 1)) (k : TW Z mi d (pc + 1) lv (tI (-x) :: st) G Q) : TW Z mi d pc lv (tI x :: st) G Q :=
  TW.step0 (fun p l e R s m args below meth c H locs cells slots Qf C ls hl kk => lv_ineg C.1 C.2.1 hd (by rw [i_neg]; exact kk)) k
/-- an int that the machine makes, by what it is as a number -/
theorem i_of (v : Int32) : (.int v : Value) = tI v.toInt := by unfold tI; rw [Int32.ofInt_toInt]
def iand (x y : Int) : Int := (Int32.ofInt x &&& Int32.ofInt y).toInt
def ior (x y : Int) : Int := (Int32.ofInt x ||| Int32.ofInt y).toInt
def ixor (x y : Int) : Int := (Int32.ofInt x ^^^ Int32.ofInt y).toInt
def ishl (x y : Int) : Int := (Int32.ofInt x <<< (Int32.ofInt y &&& 31)).toInt
def ishr (x y : Int) : Int := (Int32.ofInt x >>> (Int32.ofInt y &&& 31)).toInt
def iushr (x y : Int) : Int := ((Int32.ofInt x).toUInt32 >>> ((Int32.ofInt y).toUInt32 &&& Int32.toUInt32 31)).toInt32.toInt
def i2b (x : Int) : Int := (Int32.ofInt x).toInt8.toInt32.toInt
def i2c (x : Int) : Int := ((Int32.ofInt x).toUInt32 % 65536).toInt32.toInt
theorem tw_iand {x y : Int} (hd : decode (mC mi) pc = .ok (.iand, 1)) (k : TW Z mi d (pc + 1) lv (tI (iand x y) :: st) G Q) : TW Z mi d pc lv (tI y :: tI x :: st) G Q :=
  TW.step0 (fun p l e R s m args below meth c H locs cells slots Qf C ls hl kk => lv_iand C.1 C.2.1 hd (by rw [i_of]; exact kk)) k
theorem tw_ior {x y : Int} (hd : decode (mC mi) pc = .ok (.ior, 1)) (k : TW Z mi d (pc + 1) lv (tI (ior x y) :: st) G Q) : TW Z mi d pc lv (tI y :: tI x :: st) G Q :=
  TW.step0 (fun p l e R s m args below meth c H locs cells slots Qf C ls hl kk => lv_ior C.1 C.2.1 hd (by rw [i_of]; exact kk)) k
theorem tw_ixor {x y : Int} (hd : decode (mC mi) pc = .ok (.ixor, 1)) (k : TW Z mi d (pc + 1) lv (tI (ixor x y) :: st) G Q) : TW Z mi d pc lv (tI y :: tI x :: st) G Q :=
  TW.step0 (fun p l e R s m args below meth c H locs cells slots Qf C ls hl kk => lv_ixor C.1 C.2.1 hd (by rw [i_of]; exact kk)) k
theorem tw_ishl {x y : Int} (hd : decode (mC mi) pc = .ok (.ishl, 1)) (k : TW Z mi d (pc + 1) lv (tI (ishl x y) :: st) G Q) : TW Z mi d pc lv (tI y :: tI x :: st) G Q :=
  TW.step0 (fun p l e R s m args below meth c H locs cells slots Qf C ls hl kk => lv_ishl C.1 C.2.1 hd (by rw [i_of]; exact kk)) k
theorem tw_ishr {x y : Int} (hd : decode (mC mi) pc = .ok (.ishr, 1)) (k : TW Z mi d (pc + 1) lv (tI (ishr x y) :: st) G Q) : TW Z mi d pc lv (tI y :: tI x :: st) G Q :=
  TW.step0 (fun p l e R s m args below meth c H locs cells slots Qf C ls hl kk => lv_ishr C.1 C.2.1 hd (by rw [i_of]; exact kk)) k
theorem tw_iushr {x y : Int} (hd : decode (mC mi) pc = .ok (.iushr, 1)) (k : TW Z mi d (pc + 1) lv (tI (iushr x y) :: st) G Q) : TW Z mi d pc lv (tI y :: tI x :: st) G Q :=
  TW.step0 (fun p l e R s m args below meth c H locs cells slots Qf C ls hl kk => lv_iushr C.1 C.2.1 hd rfl (by rw [i_of]; exact kk)) k
theorem tw_i2b {x : Int} (hd : decode (mC mi) pc = .ok (.i2b, 1)) (k : TW Z mi d (pc + 1) lv (tI (i2b x) :: st) G Q) : TW Z mi d pc lv (tI x :: st) G Q :=
  TW.step0 (fun p l e R s m args below meth c H locs cells slots Qf C ls hl kk => lv_i2b C.1 C.2.1 hd rfl (by rw [i_of]; exact kk)) k
theorem tw_i2c {x : Int} (hd : decode (mC mi) pc = .ok (.i2c, 1)) (k : TW Z mi d (pc + 1) lv (tI (i2c x) :: st) G Q) : TW Z mi d pc lv (tI x :: st) G Q :=
  TW.step0 (fun p l e R s m args below meth c H locs cells slots Qf C ls hl kk => lv_i2c C.1 C.2.1 hd rfl (by rw [i_of]; exact kk)) k
theorem i_tol {x : Int} (h : inR x) : (Int32.ofInt x).toInt64 = Int64.ofInt x := Int64.toInt_inj.1 (by rw [Int32.toInt_toInt64, i_to h, l_to ⟨by have := h.1; omega, by have := h.2; omega⟩])
theorem tw_i2l {x : Int} (hd : decode (mC mi) pc = .ok (.i2l, 1)) (hr : inR x) (k : TW Z mi d (pc + 1) lv (tL x :: st) G Q) : TW Z mi d pc lv (tI x :: st) G Q :=
  TW.step0 (fun p l e R s m args below meth c H locs cells slots Qf C ls hl kk => lv_i2l C.1 C.2.1 hd (i_tol hr) kk) k
theorem tw_i2f {x : Int} (hd : decode (mC mi) pc = .ok (.i2f, 1)) (k : TW Z mi d (pc + 1) lv (.float (FP.i2f (Int32.ofInt x)) :: st) G Q) : TW Z mi d pc lv (tI x :: st) G Q :=
  TW.step0 (fun p l e R s m args below meth c H locs cells slots Qf C ls hl kk => lv_i2f C.1 C.2.1 hd kk) k
theorem tw_i2d {x : Int} (hd : decode (mC mi) pc = .ok (.i2d, 1)) (k : TW Z mi d (pc + 1) lv (.double (FP.i2d (Int32.ofInt x)) :: st) G Q) : TW Z mi d pc lv (tI x :: st) G Q :=
  TW.step0 (fun p l e R s m args below meth c H locs cells slots Qf C ls hl kk => lv_i2d C.1 C.2.1 hd kk) k
theorem tw_f2d {x : UInt32} (hd : decode (mC mi) pc = .ok (.f2d, 1)) (hn : vf_n64 (FP.f2d x)) (k : TW Z mi d (pc + 1) lv (.double (FP.f2d x) :: st) G Q) : TW Z mi d pc lv (.float x :: st) G Q :=
  TW.step0 (fun p l e R s m args below meth c H locs cells slots Qf C ls hl kk => lv_f2d C.1 C.2.1 hd hn kk) k
theorem tw_fdiv {x y : UInt32} (hd : decode (mC mi) pc = .ok (.fdiv, 1)) (hn : vf_n32 (FP.fdiv x y)) (k : TW Z mi d (pc + 1) lv (.float (FP.fdiv x y) :: st) G Q) : TW Z mi d pc lv (.float y :: .float x :: st) G Q :=
  TW.step0 (fun p l e R s m args below meth c H locs cells slots Qf C ls hl kk => lv_fdiv C.1 C.2.1 hd hn kk) k
theorem tw_ddiv {x y : UInt64} (hd : decode (mC mi) pc = .ok (.ddiv, 1)) (hn : vf_n64 (FP.ddiv x y)) (k : TW Z mi d (pc + 1) lv (.double (FP.ddiv x y) :: st) G Q) : TW Z mi d pc lv (.double y :: .double x :: st) G Q :=
  TW.step0 (fun p l e R s m args below meth c H locs cells slots Qf C ls hl kk => lv_ddiv C.1 C.2.1 hd hn kk) k
theorem tw_dcmp {x y : UInt64} {op : CmpOp} (hd : decode (mC mi) pc = .ok (.dcmp op, 1)) (k : TW Z mi d (pc + 1) lv (tI (Op.cmpValue (FP.dcmp x y) op).toInt :: st) G Q) : TW Z mi d pc lv (.double y :: .double x :: st) G Q :=
  TW.step0 (fun p l e R s m args below meth c H locs cells slots Qf C ls hl kk => lv_dcmp C.1 C.2.1 hd (by rw [i_of]; exact kk)) k
def lsgn (x y : Int) : Int := if y < x then 1 else if x = y then 0 else -1
theorem tw_lcmp {x y : Int} (hd : decode (mC mi) pc = .ok (.lcmp, 1)) (hx : inL x) (hy : inL y) (k : TW Z mi d (pc + 1) lv (tI (lsgn x y) :: st) G Q) : TW Z mi d pc lv (tL y :: tL x :: st) G Q :=
  TW.step0 (fun p l e R s m args below meth c H locs cells slots Qf C ls hl kk => W.lcmp C.1 C.2.1 hd (by
    have e1 : Int64.ofInt y < Int64.ofInt x ↔ y < x := by rw [Int64.lt_iff_toInt_lt, l_to hx, l_to hy]
    have e2 : Int64.ofInt x = Int64.ofInt y ↔ x = y := by rw [← Int64.toInt_inj, l_to hx, l_to hy]
    have e3 : lg_cmp (Int64.ofInt x) (Int64.ofInt y) = Int32.ofInt (lsgn x y) := by
      unfold lg_cmp lsgn
      by_cases h1 : y < x
      · rw [if_pos (e1.mpr h1), if_pos h1]; rfl
      · rw [if_neg (fun q => h1 (e1.mp q)), if_neg h1]
        by_cases h2 : x = y
        · rw [if_pos (e2.mpr h2), if_pos h2]; rfl
        · rw [if_neg (fun q => h2 (e2.mp q)), if_neg h2]; rfl
    rw [e3]
    exact kk)) k
theorem i_div {x y : Int} (hx : inR x) (hy : inR y) (h0 : 0 < y) : Int32.ofInt x / Int32.ofInt y = Int32.ofInt (x.tdiv y) := by
  have hb : -2147483648 ≤ x.tdiv y ∧ x.tdiv y ≤ 2147483647 := by
    have h1 := Int.natAbs_tdiv_le_natAbs x y
    have h2 := hx.1
    have h3 := hx.2
    constructor
    · omega
    · by_cases h4 : 0 ≤ x
      · omega
      · have h5 : 0 ≤ (-x).tdiv y := Int.tdiv_nonneg (by omega) (by omega)
        rw [Int.neg_tdiv] at h5
        omega
  apply Int32.toInt_inj.1
  rw [Int32.toInt_div_of_ne_right _ _ (fun h => by have := congrArg Int32.toInt h; rw [i_to hy] at this; have e : (-1 : Int32).toInt = -1 := by decide
                                                   rw [e] at this; omega), i_to hx, i_to hy, i_to hb]
theorem tw_idiv {x y : Int} (hd : decode (mC mi) pc = .ok (.idiv, 1)) (hx : inR x) (hy : inR y) (h0 : 0 < y) (k : TW Z mi d (pc + 1) lv (tI (x.tdiv y) :: st) G Q) : TW Z mi d pc lv (tI y :: tI x :: st) G Q :=
  TW.step0 (fun p l e R s m args below meth c H locs cells slots Qf C ls hl kk => lv_idiv C.1 C.2.1 hd (fun h => by rw [i_zero, i_eq hy (by decide)] at h; omega) (by rw [i_div hx hy h0]; exact kk)) k
theorem tw_irem {x y : Int} (hd : decode (mC mi) pc = .ok (.irem, 1)) (hx : inR x) (hy : inR y) (h0 : 0 < y) (k : TW Z mi d (pc + 1) lv (tI (x.tmod y) :: st) G Q) : TW Z mi d pc lv (tI y :: tI x :: st) G Q :=
  TW.step0 (fun p l e R s m args below meth c H locs cells slots Qf C ls hl kk => lv_irem C.1 C.2.1 hd (fun h => by rw [i_zero, i_eq hy (by decide)] at h; omega) (by rw [i_div hx hy h0, i_mul, i_sub, show x - x.tdiv y * y = x.tmod y by rw [Int.tmod_def, Int.mul_comm]]; exact kk)) k
theorem tw_dup {v : Value} (hd : decode (mC mi) pc = .ok (.dup, 1)) (hc : v.category = 1) (k : TW Z mi d (pc + 1) lv (v :: v :: st) G Q) : TW Z mi d pc lv (v :: st) G Q :=
  TW.step0 (fun p l e R s m args below meth c H locs cells slots Qf C ls hl kk => lv_dup C.1 C.2.1 hd hc kk) k
theorem tw_pop {v : Value} (hd : decode (mC mi) pc = .ok (.pop, 1)) (hc : v.category = 1) (k : TW Z mi d (pc + 1) lv (st) G Q) : TW Z mi d pc lv (v :: st) G Q :=
  TW.step0 (fun p l e R s m args below meth c H locs cells slots Qf C ls hl kk => lv_pop C.1 C.2.1 hd hc kk) k
theorem tw_dup2 {v w : Value} (hd : decode (mC mi) pc = .ok (.dup2, 1)) (hc : v.category = 1) (hc2 : w.category = 1) (k : TW Z mi d (pc + 1) lv (v :: w :: v :: w :: st) G Q) : TW Z mi d pc lv (v :: w :: st) G Q :=
  TW.step0 (fun p l e R s m args below meth c H locs cells slots Qf C ls hl kk => lv_dup2_11 C.1 C.2.1 hd hc hc2 kk) k
theorem tw_dup_x1 {v w : Value} (hd : decode (mC mi) pc = .ok (.dup_x1, 1)) (hc : v.category = 1) (hc2 : w.category = 1) (k : TW Z mi d (pc + 1) lv (v :: w :: v :: st) G Q) : TW Z mi d pc lv (v :: w :: st) G Q :=
  TW.step0 (fun p l e R s m args below meth c H locs cells slots Qf C ls hl kk => lv_dup_x1 C.1 C.2.1 hd hc hc2 kk) k
theorem tw_dup_x2 {v w u : Value} (hd : decode (mC mi) pc = .ok (.dup_x2, 1)) (hc : v.category = 1) (hc2 : w.category = 1) (hc3 : u.category = 1) (k : TW Z mi d (pc + 1) lv (v :: w :: u :: v :: st) G Q) : TW Z mi d pc lv (v :: w :: u :: st) G Q :=
  TW.step0 (fun p l e R s m args below meth c H locs cells slots Qf C ls hl kk => lv_dup_x2 C.1 C.2.1 hd hc hc2 hc3 kk) k
theorem tw_goto {off : Int} {tgt : Nat} (hd : decode (mC mi) pc = .ok (.goto off, 3)) (ht : (pc : Int) + off = (tgt : Int)) (k : TW Z mi d tgt lv st G Q) : TW Z mi d pc lv st G Q :=
  TW.step0 (fun p l e R s m args below meth c H locs cells slots Qf C ls hl kk => lv_goto C.1 C.2.1 hd ht kk) k
theorem tw_icmp_eq {x y : Int} {off : Int} {tgt : Nat} (hd : decode (mC mi) pc = .ok (.if_icmp .eq off, 3)) (ht : (pc : Int) + off = (tgt : Int)) (hx : inR x) (hy : inR y) (kt : x = y → TW Z mi d tgt lv st G Q) (kf : ¬ x = y → TW Z mi d (pc + 3) lv st G Q) : TW Z mi d pc lv (tI y :: tI x :: st) G Q := by
  have hf := i_eq hx hy
  by_cases h : x = y
  · exact TW.step0 (fun p l e R s m args below meth c H locs cells slots Qf C ls hl kk => lv_icmp_eq C.1 C.2.1 hd ht (fun _ => kk) (fun q => absurd (hf.mpr h) q)) (kt h)
  · exact TW.step0 (fun p l e R s m args below meth c H locs cells slots Qf C ls hl kk => lv_icmp_eq C.1 C.2.1 hd ht (fun q => absurd (hf.mp q) h) (fun _ => kk)) (kf h)
theorem tw_if_eq {x : Int} {off : Int} {tgt : Nat} (hd : decode (mC mi) pc = .ok (.ifCond .eq off, 3)) (ht : (pc : Int) + off = (tgt : Int)) (hx : inR x) (kt : x = 0 → TW Z mi d tgt lv st G Q) (kf : ¬ x = 0 → TW Z mi d (pc + 3) lv st G Q) : TW Z mi d pc lv (tI x :: st) G Q := by
  have hf := i_eq hx (show inR 0 by decide)
  by_cases h : x = 0
  · exact TW.step0 (fun p l e R s m args below meth c H locs cells slots Qf C ls hl kk => lv_if_eq C.1 C.2.1 hd ht (fun _ => kk) (fun q => absurd (hf.mpr h) q)) (kt h)
  · exact TW.step0 (fun p l e R s m args below meth c H locs cells slots Qf C ls hl kk => lv_if_eq C.1 C.2.1 hd ht (fun q => absurd (hf.mp q) h) (fun _ => kk)) (kf h)
theorem tw_icmp_ne {x y : Int} {off : Int} {tgt : Nat} (hd : decode (mC mi) pc = .ok (.if_icmp .ne off, 3)) (ht : (pc : Int) + off = (tgt : Int)) (hx : inR x) (hy : inR y) (kt : ¬ x = y → TW Z mi d tgt lv st G Q) (kf : x = y → TW Z mi d (pc + 3) lv st G Q) : TW Z mi d pc lv (tI y :: tI x :: st) G Q := by
  have hf := i_eq hx hy
  by_cases h : x = y
  · exact TW.step0 (fun p l e R s m args below meth c H locs cells slots Qf C ls hl kk => lv_icmp_ne C.1 C.2.1 hd ht (fun q => absurd (hf.mpr h) q) (fun _ => kk)) (kf h)
  · exact TW.step0 (fun p l e R s m args below meth c H locs cells slots Qf C ls hl kk => lv_icmp_ne C.1 C.2.1 hd ht (fun _ => kk) (fun q => absurd (hf.mp q) h)) (kt h)
theorem tw_if_ne {x : Int} {off : Int} {tgt : Nat} (hd : decode (mC mi) pc = .ok (.ifCond .ne off, 3)) (ht : (pc : Int) + off = (tgt : Int)) (hx : inR x) (kt : ¬ x = 0 → TW Z mi d tgt lv st G Q) (kf : x = 0 → TW Z mi d (pc + 3) lv st G Q) : TW Z mi d pc lv (tI x :: st) G Q := by
  have hf := i_eq hx (show inR 0 by decide)
  by_cases h : x = 0
  · exact TW.step0 (fun p l e R s m args below meth c H locs cells slots Qf C ls hl kk => lv_if_ne C.1 C.2.1 hd ht (fun q => absurd (hf.mpr h) q) (fun _ => kk)) (kf h)
  · exact TW.step0 (fun p l e R s m args below meth c H locs cells slots Qf C ls hl kk => lv_if_ne C.1 C.2.1 hd ht (fun _ => kk) (fun q => absurd (hf.mp q) h)) (kt h)
theorem tw_icmp_lt {x y : Int} {off : Int} {tgt : Nat} (hd : decode (mC mi) pc = .ok (.if_icmp .lt off, 3)) (ht : (pc : Int) + off = (tgt : Int)) (hx : inR x) (hy : inR y) (kt : x < y → TW Z mi d tgt lv st G Q) (kf : ¬ x < y → TW Z mi d (pc + 3) lv st G Q) : TW Z mi d pc lv (tI y :: tI x :: st) G Q := by
  have hf := i_lt hx hy
  by_cases h : x < y
  · exact TW.step0 (fun p l e R s m args below meth c H locs cells slots Qf C ls hl kk => lv_icmp_lt C.1 C.2.1 hd ht (fun _ => kk) (fun q => absurd (hf.mpr h) q)) (kt h)
  · exact TW.step0 (fun p l e R s m args below meth c H locs cells slots Qf C ls hl kk => lv_icmp_lt C.1 C.2.1 hd ht (fun q => absurd (hf.mp q) h) (fun _ => kk)) (kf h)
theorem tw_if_lt {x : Int} {off : Int} {tgt : Nat} (hd : decode (mC mi) pc = .ok (.ifCond .lt off, 3)) (ht : (pc : Int) + off = (tgt : Int)) (hx : inR x) (kt : x < 0 → TW Z mi d tgt lv st G Q) (kf : ¬ x < 0 → TW Z mi d (pc + 3) lv st G Q) : TW Z mi d pc lv (tI x :: st) G Q := by
  have hf := i_lt hx (show inR 0 by decide)
  by_cases h : x < 0
  · exact TW.step0 (fun p l e R s m args below meth c H locs cells slots Qf C ls hl kk => lv_if_lt C.1 C.2.1 hd ht (fun _ => kk) (fun q => absurd (hf.mpr h) q)) (kt h)
  · exact TW.step0 (fun p l e R s m args below meth c H locs cells slots Qf C ls hl kk => lv_if_lt C.1 C.2.1 hd ht (fun q => absurd (hf.mp q) h) (fun _ => kk)) (kf h)
theorem tw_icmp_ge {x y : Int} {off : Int} {tgt : Nat} (hd : decode (mC mi) pc = .ok (.if_icmp .ge off, 3)) (ht : (pc : Int) + off = (tgt : Int)) (hx : inR x) (hy : inR y) (kt : y ≤ x → TW Z mi d tgt lv st G Q) (kf : ¬ y ≤ x → TW Z mi d (pc + 3) lv st G Q) : TW Z mi d pc lv (tI y :: tI x :: st) G Q := by
  have hf := i_le hy hx
  by_cases h : y ≤ x
  · exact TW.step0 (fun p l e R s m args below meth c H locs cells slots Qf C ls hl kk => lv_icmp_ge C.1 C.2.1 hd ht (fun _ => kk) (fun q => absurd (hf.mpr h) q)) (kt h)
  · exact TW.step0 (fun p l e R s m args below meth c H locs cells slots Qf C ls hl kk => lv_icmp_ge C.1 C.2.1 hd ht (fun q => absurd (hf.mp q) h) (fun _ => kk)) (kf h)
theorem tw_if_ge {x : Int} {off : Int} {tgt : Nat} (hd : decode (mC mi) pc = .ok (.ifCond .ge off, 3)) (ht : (pc : Int) + off = (tgt : Int)) (hx : inR x) (kt : 0 ≤ x → TW Z mi d tgt lv st G Q) (kf : ¬ 0 ≤ x → TW Z mi d (pc + 3) lv st G Q) : TW Z mi d pc lv (tI x :: st) G Q := by
  have hf := i_le (show inR 0 by decide) hx
  by_cases h : 0 ≤ x
  · exact TW.step0 (fun p l e R s m args below meth c H locs cells slots Qf C ls hl kk => lv_if_ge C.1 C.2.1 hd ht (fun _ => kk) (fun q => absurd (hf.mpr h) q)) (kt h)
  · exact TW.step0 (fun p l e R s m args below meth c H locs cells slots Qf C ls hl kk => lv_if_ge C.1 C.2.1 hd ht (fun q => absurd (hf.mp q) h) (fun _ => kk)) (kf h)
theorem tw_icmp_gt {x y : Int} {off : Int} {tgt : Nat} (hd : decode (mC mi) pc = .ok (.if_icmp .gt off, 3)) (ht : (pc : Int) + off = (tgt : Int)) (hx : inR x) (hy : inR y) (kt : y < x → TW Z mi d tgt lv st G Q) (kf : ¬ y < x → TW Z mi d (pc + 3) lv st G Q) : TW Z mi d pc lv (tI y :: tI x :: st) G Q := by
  have hf := i_lt hy hx
  by_cases h : y < x
  · exact TW.step0 (fun p l e R s m args below meth c H locs cells slots Qf C ls hl kk => lv_icmp_gt C.1 C.2.1 hd ht (fun _ => kk) (fun q => absurd (hf.mpr h) q)) (kt h)
  · exact TW.step0 (fun p l e R s m args below meth c H locs cells slots Qf C ls hl kk => lv_icmp_gt C.1 C.2.1 hd ht (fun q => absurd (hf.mp q) h) (fun _ => kk)) (kf h)
theorem tw_if_gt {x : Int} {off : Int} {tgt : Nat} (hd : decode (mC mi) pc = .ok (.ifCond .gt off, 3)) (ht : (pc : Int) + off = (tgt : Int)) (hx : inR x) (kt : 0 < x → TW Z mi d tgt lv st G Q) (kf : ¬ 0 < x → TW Z mi d (pc + 3) lv st G Q) : TW Z mi d pc lv (tI x :: st) G Q := by
  have hf := i_lt (show inR 0 by decide) hx
  by_cases h : 0 < x
  · exact TW.step0 (fun p l e R s m args below meth c H locs cells slots Qf C ls hl kk => lv_if_gt C.1 C.2.1 hd ht (fun _ => kk) (fun q => absurd (hf.mpr h) q)) (kt h)
  · exact TW.step0 (fun p l e R s m args below meth c H locs cells slots Qf C ls hl kk => lv_if_gt C.1 C.2.1 hd ht (fun q => absurd (hf.mp q) h) (fun _ => kk)) (kf h)
theorem tw_icmp_le {x y : Int} {off : Int} {tgt : Nat} (hd : decode (mC mi) pc = .ok (.if_icmp .le off, 3)) (ht : (pc : Int) + off = (tgt : Int)) (hx : inR x) (hy : inR y) (kt : x ≤ y → TW Z mi d tgt lv st G Q) (kf : ¬ x ≤ y → TW Z mi d (pc + 3) lv st G Q) : TW Z mi d pc lv (tI y :: tI x :: st) G Q := by
  have hf := i_le hx hy
  by_cases h : x ≤ y
  · exact TW.step0 (fun p l e R s m args below meth c H locs cells slots Qf C ls hl kk => lv_icmp_le C.1 C.2.1 hd ht (fun _ => kk) (fun q => absurd (hf.mpr h) q)) (kt h)
  · exact TW.step0 (fun p l e R s m args below meth c H locs cells slots Qf C ls hl kk => lv_icmp_le C.1 C.2.1 hd ht (fun q => absurd (hf.mp q) h) (fun _ => kk)) (kf h)
theorem tw_if_le {x : Int} {off : Int} {tgt : Nat} (hd : decode (mC mi) pc = .ok (.ifCond .le off, 3)) (ht : (pc : Int) + off = (tgt : Int)) (hx : inR x) (kt : x ≤ 0 → TW Z mi d tgt lv st G Q) (kf : ¬ x ≤ 0 → TW Z mi d (pc + 3) lv st G Q) : TW Z mi d pc lv (tI x :: st) G Q := by
  have hf := i_le hx (show inR 0 by decide)
  by_cases h : x ≤ 0
  · exact TW.step0 (fun p l e R s m args below meth c H locs cells slots Qf C ls hl kk => lv_if_le C.1 C.2.1 hd ht (fun _ => kk) (fun q => absurd (hf.mpr h) q)) (kt h)
  · exact TW.step0 (fun p l e R s m args below meth c H locs cells slots Qf C ls hl kk => lv_if_le C.1 C.2.1 hd ht (fun q => absurd (hf.mp q) h) (fun _ => kk)) (kf h)
theorem tw_ifnull {r : Option Nat} {off : Int} {tgt : Nat} (hd : decode (mC mi) pc = .ok (.ifnull off, 3)) (ht : (pc : Int) + off = (tgt : Int)) (kt : r = none → TW Z mi d tgt lv st G Q) (kf : ∀ a, r = some a → TW Z mi d (pc + 3) lv st G Q) : TW Z mi d pc lv (tR r :: st) G Q := by
  cases r with
  | none => exact TW.step0 (fun p l e R s m args below meth c H locs cells slots Qf C ls hl kk => lv_ifnullN C.1 C.2.1 hd ht kk) (kt rfl)
  | some a => exact TW.step0 (fun p l e R s m args below meth c H locs cells slots Qf C ls hl kk => lv_ifnull C.1 C.2.1 hd kk) (kf a rfl)
theorem tw_ifnonnull {r : Option Nat} {off : Int} {tgt : Nat} (hd : decode (mC mi) pc = .ok (.ifnonnull off, 3)) (ht : (pc : Int) + off = (tgt : Int)) (kt : ∀ a, r = some a → TW Z mi d tgt lv st G Q) (kf : r = none → TW Z mi d (pc + 3) lv st G Q) : TW Z mi d pc lv (tR r :: st) G Q := by
  cases r with
  | none => exact TW.step0 (fun p l e R s m args below meth c H locs cells slots Qf C ls hl kk => lv_ifnonnullN C.1 C.2.1 hd kk) (kf rfl)
  | some a => exact TW.step0 (fun p l e R s m args below meth c H locs cells slots Qf C ls hl kk => lv_ifnonnull C.1 C.2.1 hd ht kk) (kt a rfl)
theorem tw_acmp_eq {x y : Option Nat} {off : Int} {tgt : Nat} (hd : decode (mC mi) pc = .ok (.if_acmp .eq off, 3)) (ht : (pc : Int) + off = (tgt : Int)) (kt : x = y → TW Z mi d tgt lv st G Q) (kf : ¬ x = y → TW Z mi d (pc + 3) lv st G Q) : TW Z mi d pc lv (tR y :: tR x :: st) G Q := by
  by_cases h : x = y
  · exact TW.step0 (fun p l e R s m args below meth c H locs cells slots Qf C ls hl kk => lv_acmp_eq C.1 C.2.1 hd ht (fun _ => kk) (fun q => absurd h q)) (kt h)
  · exact TW.step0 (fun p l e R s m args below meth c H locs cells slots Qf C ls hl kk => lv_acmp_eq C.1 C.2.1 hd ht (fun q => absurd q h) (fun _ => kk)) (kf h)
theorem tw_acmp_ne {x y : Option Nat} {off : Int} {tgt : Nat} (hd : decode (mC mi) pc = .ok (.if_acmp .ne off, 3)) (ht : (pc : Int) + off = (tgt : Int)) (kt : ¬ x = y → TW Z mi d tgt lv st G Q) (kf : x = y → TW Z mi d (pc + 3) lv st G Q) : TW Z mi d pc lv (tR y :: tR x :: st) G Q := by
  by_cases h : x = y
  · exact TW.step0 (fun p l e R s m args below meth c H locs cells slots Qf C ls hl kk => lv_acmp_ne C.1 C.2.1 hd ht (fun q => absurd h q) (fun _ => kk)) (kf h)
  · exact TW.step0 (fun p l e R s m args below meth c H locs cells slots Qf C ls hl kk => lv_acmp_ne C.1 C.2.1 hd ht (fun _ => kk) (fun q => absurd q h)) (kt h)
theorem tw_tableIn {dflt lo hi : Int} {offs : Array Int} {len : Nat} {x off : Int} {tgt : Nat} (hd : decode (mC mi) pc = .ok (.tableswitch dflt lo hi offs, len)) (hx : inR x) (h1 : lo ≤ x) (h2 : x ≤ hi) (ho : offs[(x - lo).toNat]? = some off) (ht : (pc : Int) + off = (tgt : Int)) (k : TW Z mi d tgt lv st G Q) : TW Z mi d pc lv (tI x :: st) G Q :=
  TW.step0 (fun p l e R s m args below meth c H locs cells slots Qf C ls hl kk => lv_tableIn C.1 C.2.1 hd (by rw [i_to hx]; omega) (by rw [i_to hx]; omega) (by rw [i_to hx]; exact ho) ht kk) k
theorem tw_tableOut {dflt lo hi : Int} {offs : Array Int} {len : Nat} {x : Int} {tgt : Nat} (hd : decode (mC mi) pc = .ok (.tableswitch dflt lo hi offs, len)) (hx : inR x) (h : x < lo ∨ hi < x) (ht : (pc : Int) + dflt = (tgt : Int)) (k : TW Z mi d tgt lv st G Q) : TW Z mi d pc lv (tI x :: st) G Q :=
  TW.step0 (fun p l e R s m args below meth c H locs cells slots Qf C ls hl kk => lv_tableOut C.1 C.2.1 hd (by rw [i_to hx]; omega) ht kk) k
theorem tw_lookup {dflt : Int} {ps : Array (Int × Int)} {len : Nat} {x off : Int} {tgt : Nat} (hd : decode (mC mi) pc = .ok (.lookupswitch dflt ps, len)) (hx : inR x) (hp : (ps.toList.zip (ps.toList.drop 1)).all (fun (a, next) => a.1 < next.1) = true) (ho : Op.lookupswitch.offset ps.toList dflt x = off) (ht : (pc : Int) + off = (tgt : Int)) (k : TW Z mi d tgt lv st G Q) : TW Z mi d pc lv (tI x :: st) G Q :=
  TW.step0 (fun p l e R s m args below meth c H locs cells slots Qf C ls hl kk => lv_lookup C.1 C.2.1 hd hp (by rw [i_to hx]; exact ho) ht kk) k
end TROWS
