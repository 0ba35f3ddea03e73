/-! regions (printed by tools/mkregions.py) -/
set_option maxRecDepth 100000
abbrev mi_X10_init : MI := (yX10_init, cX10_init, 5, none, [])
theorem wi_X10_init : mW mi_X10_init ∈ lw_all := q1998
theorem np_X10_init : NP (mN mi_X10_init) 4 := np_of (by decide +kernel)
theorem nh_X10_init : NMH (mN mi_X10_init).cls := ⟨by decide +kernel, by decide +kernel⟩
theorem pl_X10_init : plainFor (mN mi_X10_init) = true := plainFor_of_name (by decide +kernel)
theorem lp_X10_7 : FPf "CrossbarExchange$Waiter" 7 112 (.int) := ⟨("CrossbarExchange$Waiter", "caller", "I", true), rfl, rfl, by decide +kernel, rfl, q2000⟩
theorem kc_10_112 : kwb 10 112 = true := by decide +kernel
theorem fy_112 : fy 112 = 0 := by decide +kernel
theorem lp_X10_13 : FPf "CrossbarExchange$Waiter" 13 113 (.int) := ⟨("CrossbarExchange$Waiter", "group", "I", true), rfl, rfl, by decide +kernel, rfl, q2003⟩
theorem kc_10_113 : kwb 10 113 = true := by decide +kernel
theorem fy_113 : fy 113 = 0 := by decide +kernel
theorem lp_X10_16 : FPf "CrossbarExchange$Waiter" 16 114 (.int) := ⟨("CrossbarExchange$Waiter", "lasts", "I", true), rfl, rfl, by decide +kernel, rfl, q2006⟩
theorem kc_10_114 : kwb 10 114 = true := by decide +kernel
theorem fy_114 : fy 114 = 0 := by decide +kernel
theorem lp_X10_19 : FPf "CrossbarExchange$Waiter" 19 115 (.int) := ⟨("CrossbarExchange$Waiter", "since", "I", true), rfl, rfl, by decide +kernel, rfl, q2009⟩
theorem kc_10_115 : kwb 10 115 = true := by decide +kernel
theorem fy_115 : fy 115 = 0 := by decide +kernel
theorem c_X10_init {Z : ZT} {d : Nat} {G : GH} {Q : TR → GH → Prop} {t : Nat} {x1 : Int} {x2 : Int} {x3 : Int} {x4 : Int} (h : (gK (G) t = 10) ∧ Q (.inl none) (setI (setI (setI (setI (G) 112 t x1) 113 t x2) 114 t x3) 115 t x4)) : TC Z (d + 1) mi_X10_init [tR (some t), tI x1, tI x2, tI x3, tI x4] G Q :=
  tc_of pl_X10_init (cats_cons (cat_R _) (cats_cons (cat_I _) (cats_cons (cat_I _) (cats_cons (cat_I _) (cats_cons (cat_I _) (cats_nil)))))) (Nat.le_of_ble_eq_true rfl) (show TW Z mi_X10_init (d + 1) 0 [some (tR (some t)), some (tI x1), some (tI x2), some (tI x3), some (tI x4)] [] G Q from tw_aload_n dX10_init_0 rfl (tw_objInit dX10_init_1 q1999 q209 q210 (Nat.le_of_ble_eq_true rfl) (tw_aload_n dX10_init_4 rfl (tw_iload_n dX10_init_5 rfl (tw_putIf dX10_init_6 rfl lp_X10_7 fy_112 (kw1 10 h.1 kc_10_112) (tw_aload_n dX10_init_9 rfl (tw_iload_n dX10_init_10 rfl (tw_putIf dX10_init_11 rfl lp_X10_13 fy_113 (kw1 10 h.1 kc_10_113) (tw_aload_n dX10_init_14 rfl (tw_iload_n dX10_init_15 rfl (tw_putIf dX10_init_16 rfl lp_X10_16 fy_114 (kw1 10 h.1 kc_10_114) (tw_aload_n dX10_init_19 rfl (tw_iload dX10_init_20 rfl (tw_putIf dX10_init_22 rfl lp_X10_19 fy_115 (kw1 10 h.1 kc_10_115) (tw_vret dX10_init_25 rfl h.2)))))))))))))))
abbrev mi_X3_init : MI := (yX3_init, cX3_init, 1, none, [])
theorem wi_X3_init : mW mi_X3_init ∈ lw_all := q327
theorem np_X3_init : NP (mN mi_X3_init) 0 := np_of (by decide +kernel)
theorem nh_X3_init : NMH (mN mi_X3_init).cls := ⟨by decide +kernel, by decide +kernel⟩
theorem pl_X3_init : plainFor (mN mi_X3_init) = true := plainFor_of_name (by decide +kernel)
theorem c_X3_init {Z : ZT} {d : Nat} {G : GH} {Q : TR → GH → Prop} {t : Nat} (h : Q (.inl none) (G)) : TC Z (d + 1) mi_X3_init [tR (some t)] G Q :=
  tc_of pl_X3_init (cats_cons (cat_R _) (cats_nil)) (Nat.le_of_ble_eq_true rfl) (show TW Z mi_X3_init (d + 1) 0 [some (tR (some t))] [] G Q from tw_aload_n dX3_init_0 rfl (tw_objInit dX3_init_1 q328 q209 q210 (Nat.le_of_ble_eq_true rfl) (tw_vret dX3_init_4 rfl h)))
theorem lk_X3_7 : FLk "CrossbarExchange$Spot" 7 26 := ⟨("CrossbarExchange$Spot", "middle", "I", false), "CrossbarExchange$Spot", rfl, Or.inl rfl, Or.inl q329⟩
theorem kb_3_26 : kfb 3 26 = true := by decide +kernel
theorem fy_26 : fy 26 = 0 := by decide +kernel
theorem lk_X3_13 : FLk "CrossbarExchange$Spot" 13 27 := ⟨("CrossbarExchange$Spot", "number", "I", false), "CrossbarExchange$Spot", rfl, Or.inl rfl, Or.inl q330⟩
theorem kb_3_27 : kfb 3 27 = true := by decide +kernel
theorem fy_27 : fy 27 = 0 := by decide +kernel
theorem lk_X3_16 : FLk "CrossbarExchange$Spot" 16 28 := ⟨("CrossbarExchange$Spot", "isTo", "Z", false), "CrossbarExchange$Spot", rfl, Or.inl rfl, Or.inl q331⟩
theorem kb_3_28 : kfb 3 28 = true := by decide +kernel
theorem fy_28 : fy 28 = 0 := by decide +kernel
theorem c_X3_hashCode {Z : ZT} {d : Nat} {G : GH} {Q : TR → GH → Prop} {t : Nat} (h : (gK (G) t = 3) ∧ (inR (fI G 28 t)) ∧ ((fI G 28 t = 0 → Q (.inl (some (tI (((16 * fI G 26 t) + (2 * fI G 27 t)) + 0)))) (G)) ∧ (¬ fI G 28 t = 0 → Q (.inl (some (tI (((16 * fI G 26 t) + (2 * fI G 27 t)) + 1)))) (G)))) : TC Z (d + 1) mi_X3_hashCode [tR (some t)] G Q :=
  tc_of pl_X3_hashCode (cats_cons (cat_R _) (cats_nil)) (Nat.le_of_ble_eq_true rfl) (show TW Z mi_X3_hashCode (d + 1) 0 [some (tR (some t))] [] G Q from tw_bipush' dX3_hashCode_0 (by decide) (tw_aload_n dX3_hashCode_2 rfl (tw_getI dX3_hashCode_3 lk_X3_7 fy_26 (kf1 3 h.1 kb_3_26) rfl (tw_imul dX3_hashCode_6 (tw_iconst dX3_hashCode_7 (tw_aload_n dX3_hashCode_8 rfl (tw_getI dX3_hashCode_9 lk_X3_13 fy_27 (kf1 3 h.1 kb_3_27) rfl (tw_imul dX3_hashCode_12 (tw_iadd dX3_hashCode_13 (tw_aload_n dX3_hashCode_14 rfl (tw_getI dX3_hashCode_15 lk_X3_16 fy_28 (kf1 3 h.1 kb_3_28) rfl (tw_if_eq (tgt := 25) dX3_hashCode_18 (by decide) h.2.1 (fun c1 => tw_iconst dX3_hashCode_25 (tw_iadd dX3_hashCode_26 (tw_iret dX3_hashCode_27 rfl (h.2.2.1 c1)))) (fun c1 => tw_iconst dX3_hashCode_21 (tw_goto (tgt := 26) dX3_hashCode_22 (by decide) (tw_iadd dX3_hashCode_26 (tw_iret dX3_hashCode_27 rfl (h.2.2.2 c1)))))))))))))))))
theorem c_X3_equals {Z : ZT} {d : Nat} {G : GH} {Q : TR → GH → Prop} {t : Nat} {r1 : Option Nat} (h : ∃ a1, r1 = some a1 ∧ (gK (G) a1 = 3) ∧ (∀ b, r1 = some b → gK (G) b = 3) ∧ ∃ a3, r1 = some a3 ∧ (gK (G) a3 = 3) ∧ (gK (G) t = 3) ∧ (inR (fI G 26 a3)) ∧ (inR (fI G 26 t)) ∧ ((¬ fI G 26 a3 = fI G 26 t → TW Z mi_X3_equals (d + 1) 49 [some (tR (some t)), some (tR r1), some (tR r1)] [] (G) Q) ∧ (fI G 26 a3 = fI G 26 t → ∃ a6, r1 = some a6 ∧ (gK (G) a6 = 3) ∧ (inR (fI G 27 a6)) ∧ (inR (fI G 27 t)) ∧ ((¬ fI G 27 a6 = fI G 27 t → TW Z mi_X3_equals (d + 1) 49 [some (tR (some t)), some (tR r1), some (tR r1)] [] (G) Q) ∧ (fI G 27 a6 = fI G 27 t → ∃ a9, r1 = some a9 ∧ (gK (G) a9 = 3) ∧ (inR (fI G 28 a9)) ∧ (inR (fI G 28 t)) ∧ ((¬ fI G 28 a9 = fI G 28 t → TW Z mi_X3_equals (d + 1) 49 [some (tR (some t)), some (tR r1), some (tR r1)] [] (G) Q) ∧ (fI G 28 a9 = fI G 28 t → Q (.inl (some (tI 1))) (G)))))))) : TC Z (d + 1) mi_X3_equals [tR (some t), tR r1] G Q :=
  tc_of pl_X3_equals (cats_cons (cat_R _) (cats_cons (cat_R _) (cats_nil))) (Nat.le_of_ble_eq_true rfl) (show TW Z mi_X3_equals (d + 1) 0 [some (tR (some t)), some (tR r1), none] [] G Q from tw_aload_n dX3_equals_0 rfl (Exists.elim h (fun a1 e2 => tw_der0 e2.1 (tw_inst dX3_equals_1 q1309 (inst_ke (fun (b : Nat) (eb : some a1 = some b) => by cases eb; exact ke_of e2.2.1 cl_2 (Or.inl rfl))) (tw_if_eq (tgt := 49) dX3_equals_4 (by decide) (by decide) (fun q => absurd q (by decide)) (fun _ => tw_aload_n dX3_equals_7 rfl (tw_castO dX3_equals_8 q1309 (fun b eb => ke_of (e2.2.2.1 b eb) cl_2 (Or.inl rfl)) (tw_astore_n dX3_equals_11 (by decide) (fun w _ hw => by cases hw; exact cat_R _) (tw_aload_n dX3_equals_12 rfl (Exists.elim e2.2.2.2 (fun a3 e4 => tw_der0 e4.1 (tw_getI dX3_equals_13 lk_X3_7 fy_26 (kf1 3 e4.2.1 kb_3_26) rfl (tw_aload_n dX3_equals_16 rfl (tw_getI dX3_equals_17 lk_X3_7 fy_26 (kf1 3 e4.2.2.1 kb_3_26) rfl (tw_icmp_ne (tgt := 49) dX3_equals_20 (by decide) e4.2.2.2.1 e4.2.2.2.2.1 (fun c5 => (e4.2.2.2.2.2.1 c5)) (fun c5 => tw_aload_n dX3_equals_23 rfl (Exists.elim (e4.2.2.2.2.2.2 c5) (fun a6 e7 => tw_der0 e7.1 (tw_getI dX3_equals_24 lk_X3_13 fy_27 (kf1 3 e7.2.1 kb_3_27) rfl (tw_aload_n dX3_equals_27 rfl (tw_getI dX3_equals_28 lk_X3_13 fy_27 (kf1 3 e4.2.2.1 kb_3_27) rfl (tw_icmp_ne (tgt := 49) dX3_equals_31 (by decide) e7.2.2.1 e7.2.2.2.1 (fun c8 => (e7.2.2.2.2.1 c8)) (fun c8 => tw_aload_n dX3_equals_34 rfl (Exists.elim (e7.2.2.2.2.2 c8) (fun a9 e10 => tw_der0 e10.1 (tw_getI dX3_equals_35 lk_X3_16 fy_28 (kf1 3 e10.2.1 kb_3_28) rfl (tw_aload_n dX3_equals_38 rfl (tw_getI dX3_equals_39 lk_X3_16 fy_28 (kf1 3 e4.2.2.1 kb_3_28) rfl (tw_icmp_ne (tgt := 49) dX3_equals_42 (by decide) e10.2.2.1 e10.2.2.2.1 (fun c11 => (e10.2.2.2.2.1 c11)) (fun c11 => tw_iconst dX3_equals_45 (tw_goto (tgt := 50) dX3_equals_46 (by decide) (tw_zret dX3_equals_50 rfl (by decide) (e10.2.2.2.2.2 c11)))))))))))))))))))))))))))))))))
theorem r_X3_equals_49 {Z : ZT} {d : Nat} {G : GH} {Q : TR → GH → Prop} {t : Nat} {r1 : Option Nat} {o2 : Option Value} (h : Q (.inl (some (tI 0))) (G)) : TW Z mi_X3_equals (d + 1) 49 [some (tR (some t)), some (tR r1), o2] [] G Q :=
  tw_iconst dX3_equals_49 (tw_zret dX3_equals_50 rfl (by decide) h)
abbrev mi_X3_at : MI := (yX3_at, cX3_at, 4, some (.object "CrossbarExchange$Spot"), [])
theorem wi_X3_at : mW mi_X3_at ∈ lw_all := q1784
theorem np_X3_at : NP (mN mi_X3_at) 3 := np_of (by decide +kernel)
theorem nh_X3_at : NMH (mN mi_X3_at).cls := ⟨by decide +kernel, by decide +kernel⟩
theorem pl_X3_at : plainFor (mN mi_X3_at) = true := plainFor_of_name (by decide +kernel)
theorem lp_X3_7 : FPk "CrossbarExchange$Spot" 7 26 (.int) := ⟨("CrossbarExchange$Spot", "middle", "I", false), "CrossbarExchange$Spot", rfl, rfl, by decide +kernel, Or.inl rfl, Or.inl q329⟩
theorem kc_3_26 : kwb 3 26 = true := by decide +kernel
theorem lp_X3_13 : FPk "CrossbarExchange$Spot" 13 27 (.int) := ⟨("CrossbarExchange$Spot", "number", "I", false), "CrossbarExchange$Spot", rfl, rfl, by decide +kernel, Or.inl rfl, Or.inl q330⟩
theorem kc_3_27 : kwb 3 27 = true := by decide +kernel
theorem lp_X3_16 : FPk "CrossbarExchange$Spot" 16 28 (.boolean) := ⟨("CrossbarExchange$Spot", "isTo", "Z", false), "CrossbarExchange$Spot", rfl, rfl, by decide +kernel, Or.inl rfl, Or.inl q331⟩
theorem kc_3_28 : kwb 3 28 = true := by decide +kernel
theorem c_X3_at {Z : ZT} {d : Nat} {G : GH} {Q : TR → GH → Prop} {t : Nat} {x1 : Int} {x2 : Int} {x3 : Int} (h : (gK (G) t = 3) ∧ (x3 = 0 ∨ x3 = 1) ∧ Q (.inl (some (tR (some t)))) (setI (setI (setI (G) 26 t x1) 27 t x2) 28 t x3)) : TC Z (d + 1) mi_X3_at [tR (some t), tI x1, tI x2, tI x3] G Q :=
  tc_of pl_X3_at (cats_cons (cat_R _) (cats_cons (cat_I _) (cats_cons (cat_I _) (cats_cons (cat_I _) (cats_nil))))) (Nat.le_of_ble_eq_true rfl) (show TW Z mi_X3_at (d + 1) 0 [some (tR (some t)), some (tI x1), some (tI x2), some (tI x3)] [] G Q from tw_aload_n dX3_at_0 rfl (tw_iload_n dX3_at_1 rfl (tw_putI dX3_at_2 lp_X3_7 fy_26 (kw1 3 h.1 kc_3_26) (tw_aload_n dX3_at_5 rfl (tw_iload_n dX3_at_6 rfl (tw_putI dX3_at_7 lp_X3_13 fy_27 (kw1 3 h.1 kc_3_27) (tw_aload_n dX3_at_10 rfl (tw_iload_n dX3_at_11 rfl (tw_putZ dX3_at_12 lp_X3_16 fy_28 h.2.1 (kw1 3 h.1 kc_3_28) (tw_aload_n dX3_at_15 rfl (tw_aret dX3_at_16 rfl rfl h.2.2)))))))))))
abbrev mi_X4_init : MI := (yX4_init, cX4_init, 2, none, [])
theorem wi_X4_init : mW mi_X4_init ∈ lw_all := q417
theorem np_X4_init : NP (mN mi_X4_init) 1 := np_of (by decide +kernel)
theorem nh_X4_init : NMH (mN mi_X4_init).cls := ⟨by decide +kernel, by decide +kernel⟩
theorem pl_X4_init : plainFor (mN mi_X4_init) = true := plainFor_of_name (by decide +kernel)
theorem nw_14 : (FL 14).all (fun f => decide ((FT[f]?.bind (fun q => parseFieldDescriptor q.2.2.1)).map defaultValue = some (match fy f with | 0 => tI 0 | 1 => tR none | _ => .float 0))) = true := by decide +kernel
theorem c_X4_init {Z : ZT} {d : Nat} {G : GH} {Q : TR → GH → Prop} {t : Nat} {r1 : Option Nat} (rg5 : Nat) (h : TC Z d mi_J7_init [tR (some (gn G))] (newG (G) 15 0 rg5 3) (KQ Z mi_X4_init (d + 1) 9 12 [some (tR (some t)), some (tR r1)] [tR (some (gn G)), tR (some t)] Q)) : TC Z (d + 1) mi_X4_init [tR (some t), tR r1] G Q :=
  tc_of pl_X4_init (cats_cons (cat_R _) (cats_cons (cat_R _) (cats_nil))) (Nat.le_of_ble_eq_true rfl) (show TW Z mi_X4_init (d + 1) 0 [some (tR (some t)), some (tR r1)] [] G Q from tw_aload_n dX4_init_0 rfl (tw_objInit dX4_init_1 q418 q209 q210 (Nat.le_of_ble_eq_true rfl) (tw_aload_n dX4_init_4 rfl (tw_new rg5 dX4_init_5 cl_14 q419 q301 q161 nw_14 (tw_dup dX4_init_8 (cat_R _) (tw_call wi_J7_init q161 (by decide) (mech_I0 (rest := [tR (some (gn G)), tR (some t)]) dX4_init_9 q420 q303 wi_J7_init rfl rfl rfl nh_J7_init np_J7_init (Nat.le_of_ble_eq_true rfl)) h))))))
theorem lp_X4_10 : FPf "CrossbarExchange$Group" 10 30 (.object "java/util/List") := ⟨("CrossbarExchange$Group", "members", "Ljava/util/List;", true), rfl, rfl, by decide +kernel, rfl, q424⟩
theorem kc_4_30 : kwb 4 30 = true := by decide +kernel
theorem fy_30 : fy 30 = 1 := by decide +kernel
theorem lp_X4_16 : FPf "CrossbarExchange$Group" 16 29 (.object "java/lang/String") := ⟨("CrossbarExchange$Group", "name", "Ljava/lang/String;", true), rfl, rfl, by decide +kernel, rfl, q421⟩
theorem kc_4_29 : kwb 4 29 = true := by decide +kernel
theorem fy_29 : fy 29 = 1 := by decide +kernel
theorem r_X4_init_12 {Z : ZT} {d : Nat} {G : GH} {Q : TR → GH → Prop} {t : Nat} {r1 : Option Nat} {u0 : Option Nat} {u1 : Option Nat} (h : ∃ a1, u0 = some a1 ∧ (gK (G) a1 = 4) ∧ (gK (G) t = 4) ∧ Q (.inl none) (setR (setR (G) 30 a1 u1) 29 t r1)) : TW Z mi_X4_init (d + 1) 12 [some (tR (some t)), some (tR r1)] [tR u1, tR u0] G Q :=
  Exists.elim h (fun a1 e2 => tw_der1 e2.1 (tw_putRf dX4_init_12 rfl lp_X4_10 fy_30 rfl (kw1 4 e2.2.1 kc_4_30) (tw_aload_n dX4_init_15 rfl (tw_aload_n dX4_init_16 rfl (tw_putRf dX4_init_17 rfl lp_X4_16 fy_29 rfl (kw1 4 e2.2.2.1 kc_4_29) (tw_vret dX4_init_20 rfl e2.2.2.2))))))
abbrev mi_X4_has : MI := (yX4_has, cX4_has, 3, some .boolean, [])
theorem wi_X4_has : mW mi_X4_has ∈ lw_all := q1664
theorem np_X4_has : NP (mN mi_X4_has) 1 := np_of (by decide +kernel)
theorem nh_X4_has : NMH (mN mi_X4_has).cls := ⟨by decide +kernel, by decide +kernel⟩
theorem pl_X4_has : plainFor (mN mi_X4_has) = true := plainFor_of_name (by decide +kernel)
theorem c_X4_has {Z : ZT} {d : Nat} {G : GH} {Q : TR → GH → Prop} {t : Nat} {x1 : Int} (h : TW Z mi_X4_has (d + 1) 2 [some (tR (some t)), some (tI x1), some (tI 0)] [] (G) Q) : TC Z (d + 1) mi_X4_has [tR (some t), tI x1] G Q :=
  tc_of pl_X4_has (cats_cons (cat_R _) (cats_cons (cat_I _) (cats_nil))) (Nat.le_of_ble_eq_true rfl) (show TW Z mi_X4_has (d + 1) 0 [some (tR (some t)), some (tI x1), none] [] G Q from tw_iconst dX4_has_0 (tw_istore_n dX4_has_1 (by decide) (fun w _ hw => by cases hw; exact cat_I _) (h)))
theorem lk_X4_10 : FLk "CrossbarExchange$Group" 10 30 := ⟨("CrossbarExchange$Group", "members", "Ljava/util/List;", true), "CrossbarExchange$Group", rfl, Or.inl rfl, Or.inl q424⟩
theorem kb_4_30 : kfb 4 30 = true := by decide +kernel
theorem npx_8 : NP (⟨"java/util/List", "size", "()I"⟩ : MethodName) 0 := np_of (by decide +kernel)
theorem r_X4_has_2 {Z : ZT} {d : Nat} {G : GH} {Q : TR → GH → Prop} {t : Nat} {x1 : Int} {x2 : Int} (h : (gK (G) t = 4) ∧ ∀ v1, fR G 30 t = v1 → ∃ a3, v1 = some a3 ∧ (gK (G) a3 = 15) ∧ TC Z d mi_J7_size [tR (some a3)] (G) (KQ Z mi_X4_has (d + 1) 7 12 [some (tR (some t)), some (tI x1), some (tI x2)] [tI x2] Q)) : TW Z mi_X4_has (d + 1) 2 [some (tR (some t)), some (tI x1), some (tI x2)] [] G Q :=
  tw_iload_n dX4_has_2 rfl (tw_aload_n dX4_has_3 rfl (with_v (fR G 30 t) (fun v1 e2 => tw_getR dX4_has_4 lk_X4_10 fy_30 (kf1 4 h.1 kb_4_30) (e2) (Exists.elim (h.2 v1 e2) (fun a3 e4 => tw_der0 e4.1 (tw_call wi_J7_size q161 (by decide) (mech_F0 (rest := [tI x2]) dX4_has_7 q1666 q545 q544 q549 q547 q457 q546 q548 wi_J7_size rfl (show NMH "java/util/List" from ⟨by decide +kernel, by decide +kernel⟩) npx_8 (rc_of e4.2.1 cl_14) (Nat.le_of_ble_eq_true rfl)) e4.2.2))))))
theorem npx_9 : NP (⟨"java/util/List", "get", "(I)Ljava/lang/Object;"⟩ : MethodName) 1 := np_of (by decide +kernel)
theorem r_X4_has_12 {Z : ZT} {d : Nat} {G : GH} {Q : TR → GH → Prop} {t : Nat} {x1 : Int} {x2 : Int} {s0 : Int} {s1 : Int} (h : (inR s0) ∧ (inR s1) ∧ ((s1 ≤ s0 → Q (.inl (some (tI 0))) (G)) ∧ (¬ s1 ≤ s0 → (gK (G) t = 4) ∧ ∀ v2, fR G 30 t = v2 → ∃ a4, v2 = some a4 ∧ (gK (G) a4 = 15) ∧ TC Z d mi_J7_get [tR (some a4), tI x2] (G) (KQ Z mi_X4_has (d + 1) 20 25 [some (tR (some t)), some (tI x1), some (tI x2)] [] Q)))) : TW Z mi_X4_has (d + 1) 12 [some (tR (some t)), some (tI x1), some (tI x2)] [tI s1, tI s0] G Q :=
  tw_icmp_ge (tgt := 43) dX4_has_12 (by decide) h.1 h.2.1 (fun c1 => tw_iconst dX4_has_43 (tw_zret dX4_has_44 rfl (by decide) (h.2.2.1 c1))) (fun c1 => tw_aload_n dX4_has_15 rfl (with_v (fR G 30 t) (fun v2 e3 => tw_getR dX4_has_16 lk_X4_10 fy_30 (kf1 4 (h.2.2.2 c1).1 kb_4_30) (e3) (tw_iload_n dX4_has_19 rfl (Exists.elim ((h.2.2.2 c1).2 v2 e3) (fun a4 e5 => tw_der1 e5.1 (tw_call wi_J7_get q161 (by decide) (mech_F1 (rest := []) dX4_has_20 q1668 q1670 q1669 q1674 q1672 q457 q1671 q1673 wi_J7_get rfl (show NMH "java/util/List" from ⟨by decide +kernel, by decide +kernel⟩) npx_9 (rc_of e5.2.1 cl_14) (Nat.le_of_ble_eq_true rfl)) e5.2.2)))))))
theorem r_X4_has_25 {Z : ZT} {d : Nat} {G : GH} {Q : TR → GH → Prop} {t : Nat} {x1 : Int} {x2 : Int} {u0 : Option Nat} (h : (∀ b, u0 = some b → gK (G) b = 516) ∧ ∃ a1, u0 = some a1 ∧ (gK (G) a1 = 516) ∧ TC Z d mi_J9_intValue [tR (some a1)] (G) (KQ Z mi_X4_has (d + 1) 28 31 [some (tR (some t)), some (tI x1), some (tI x2)] [] Q)) : TW Z mi_X4_has (d + 1) 25 [some (tR (some t)), some (tI x1), some (tI x2)] [tR u0] G Q :=
  tw_castO dX4_has_25 q1684 (fun b eb => ke_fr (h.1 b eb) cl_15 (Or.inl rfl)) (Exists.elim h.2 (fun a1 e2 => tw_der0 e2.1 (tw_call wi_J9_intValue q165 (by decide) (mech_V0 (rest := []) dX4_has_28 q1685 q1324 q1325 wi_J9_intValue nh_J9_intValue np_J9_intValue (rc_fr e2.2.1 cl_15) (Nat.le_of_ble_eq_true rfl)) e2.2.2)))
theorem r_X4_has_31 {Z : ZT} {d : Nat} {G : GH} {Q : TR → GH → Prop} {t : Nat} {x1 : Int} {x2 : Int} {s0 : Int} (h : (inR s0) ∧ (inR x1) ∧ ((¬ s0 = x1 → TW Z mi_X4_has (d + 1) 2 [some (tR (some t)), some (tI x1), some (tI (x2 + 1))] [] (G) Q) ∧ (s0 = x1 → Q (.inl (some (tI 1))) (G)))) : TW Z mi_X4_has (d + 1) 31 [some (tR (some t)), some (tI x1), some (tI x2)] [tI s0] G Q :=
  tw_iload_n dX4_has_31 rfl (tw_icmp_ne (tgt := 37) dX4_has_32 (by decide) h.1 h.2.1 (fun c1 => tw_iinc dX4_has_37 rfl (by decide) (fun w _ hw => by cases hw; exact cat_I _) (tw_goto (tgt := 2) dX4_has_40 (by decide) ((h.2.2.1 c1)))) (fun c1 => tw_iconst dX4_has_35 (tw_zret dX4_has_36 rfl (by decide) (h.2.2.2 c1))))
abbrev mi_X7_init : MI := (yX7_init, cX7_init, 3, none, [])
theorem wi_X7_init : mW mi_X7_init ∈ lw_all := q1588
theorem np_X7_init : NP (mN mi_X7_init) 2 := np_of (by decide +kernel)
theorem nh_X7_init : NMH (mN mi_X7_init).cls := ⟨by decide +kernel, by decide +kernel⟩
theorem pl_X7_init : plainFor (mN mi_X7_init) = true := plainFor_of_name (by decide +kernel)
theorem c_X7_init {Z : ZT} {d : Nat} {G : GH} {Q : TR → GH → Prop} {t : Nat} {x1 : Int} {x2 : Int} (h : TC Z d mi_J17_init_2 [tR (some t), tR none, tR none] (G) (KQ Z mi_X7_init (d + 1) 3 6 [some (tR (some t)), some (tI x1), some (tI x2)] [] Q)) : TC Z (d + 1) mi_X7_init [tR (some t), tI x1, tI x2] G Q :=
  tc_of pl_X7_init (cats_cons (cat_R _) (cats_cons (cat_I _) (cats_cons (cat_I _) (cats_nil)))) (Nat.le_of_ble_eq_true rfl) (show TW Z mi_X7_init (d + 1) 0 [some (tR (some t)), some (tI x1), some (tI x2)] [] G Q from tw_aload_n dX7_init_0 rfl (tw_null dX7_init_1 (tw_null dX7_init_2 (tw_call wi_J17_init_2 q175 (by decide) (mech_I2 (rest := []) dX7_init_3 q1589 q1590 wi_J17_init_2 rfl rfl rfl nh_J17_init_2 np_J17_init_2 (Nat.le_of_ble_eq_true rfl)) h))))
theorem lp_X7_7 : FPf "CrossbarExchange$Fault" 7 99 (.int) := ⟨("CrossbarExchange$Fault", "code", "I", true), rfl, rfl, by decide +kernel, rfl, q1595⟩
theorem kc_7_99 : kwb 7 99 = true := by decide +kernel
theorem fy_99 : fy 99 = 0 := by decide +kernel
theorem lp_X7_13 : FPf "CrossbarExchange$Fault" 13 100 (.int) := ⟨("CrossbarExchange$Fault", "position", "I", true), rfl, rfl, by decide +kernel, rfl, q1597⟩
theorem kc_7_100 : kwb 7 100 = true := by decide +kernel
theorem fy_100 : fy 100 = 0 := by decide +kernel
theorem r_X7_init_6 {Z : ZT} {d : Nat} {G : GH} {Q : TR → GH → Prop} {t : Nat} {x1 : Int} {x2 : Int} (h : (gK (G) t = 7) ∧ Q (.inl none) (setI (setI (G) 99 t x1) 100 t x2)) : TW Z mi_X7_init (d + 1) 6 [some (tR (some t)), some (tI x1), some (tI x2)] [] G Q :=
  tw_aload_n dX7_init_6 rfl (tw_iload_n dX7_init_7 rfl (tw_putIf dX7_init_8 rfl lp_X7_7 fy_99 (kw1 7 h.1 kc_7_99) (tw_aload_n dX7_init_11 rfl (tw_iload_n dX7_init_12 rfl (tw_putIf dX7_init_13 rfl lp_X7_13 fy_100 (kw1 7 h.1 kc_7_100) (tw_vret dX7_init_16 rfl h.2))))))
abbrev mi_X8_init : MI := (yX8_init, cX8_init, 2, none, [])
theorem wi_X8_init : mW mi_X8_init ∈ lw_all := q1806
theorem np_X8_init : NP (mN mi_X8_init) 1 := np_of (by decide +kernel)
theorem nh_X8_init : NMH (mN mi_X8_init).cls := ⟨by decide +kernel, by decide +kernel⟩
theorem pl_X8_init : plainFor (mN mi_X8_init) = true := plainFor_of_name (by decide +kernel)
theorem c_X8_init {Z : ZT} {d : Nat} {G : GH} {Q : TR → GH → Prop} {t : Nat} {x1 : Int} (rg4 : Nat) (h : TC Z d mi_J7_init_2 [tR (some (gn G)), tI 1] (newG (G) 15 0 rg4 3) (KQ Z mi_X8_init (d + 1) 9 12 [some (tR (some t)), some (tI x1)] [tR (some (gn G)), tI (-1), tI (-1), tI x1, tR (some t)] Q)) : TC Z (d + 1) mi_X8_init [tR (some t), tI x1] G Q :=
  tc_of pl_X8_init (cats_cons (cat_R _) (cats_cons (cat_I _) (cats_nil))) (Nat.le_of_ble_eq_true rfl) (show TW Z mi_X8_init (d + 1) 0 [some (tR (some t)), some (tI x1)] [] G Q from tw_aload_n dX8_init_0 rfl (tw_iload_n dX8_init_1 rfl (tw_iconst dX8_init_2 (tw_iconst dX8_init_3 (tw_new rg4 dX8_init_4 cl_14 q1807 q301 q161 nw_14 (tw_dup dX8_init_7 (cat_R _) (tw_iconst dX8_init_8 (tw_call wi_J7_init_2 q161 (by decide) (mech_I1 (rest := [tR (some (gn G)), tI (-1), tI (-1), tI x1, tR (some t)]) dX8_init_9 q1808 q1809 wi_J7_init_2 rfl rfl rfl nh_J7_init_2 np_J7_init_2 (Nat.le_of_ble_eq_true rfl)) h))))))))
abbrev mi_X8_init_2 : MI := (yX8_init_2, cX8_init_2, 5, none, [])
theorem wi_X8_init_2 : mW mi_X8_init_2 ∈ lw_all := q1823
theorem np_X8_init_2 : NP (mN mi_X8_init_2) 4 := np_of (by decide +kernel)
theorem nh_X8_init_2 : NMH (mN mi_X8_init_2).cls := ⟨by decide +kernel, by decide +kernel⟩
theorem pl_X8_init_2 : plainFor (mN mi_X8_init_2) = true := plainFor_of_name (by decide +kernel)
theorem r_X8_init_12 {Z : ZT} {d : Nat} {G : GH} {Q : TR → GH → Prop} {t : Nat} {x1 : Int} {u0 : Option Nat} {s1 : Int} {s2 : Int} {s3 : Int} {u4 : Option Nat} (h : ∃ a1, u0 = some a1 ∧ TC Z d mi_X8_init_2 [tR (some a1), tI s1, tI s2, tI s3, tR u4] (G) (KQ Z mi_X8_init (d + 1) 12 15 [some (tR (some t)), some (tI x1)] [] Q)) : TW Z mi_X8_init (d + 1) 12 [some (tR (some t)), some (tI x1)] [tR u4, tI s3, tI s2, tI s1, tR u0] G Q :=
  Exists.elim h (fun a1 e2 => tw_der4 e2.1 (tw_call wi_X8_init_2 q191 (by decide) (mech_I4 (rest := []) dX8_init_12 q1821 q1822 wi_X8_init_2 rfl rfl rfl nh_X8_init_2 np_X8_init_2 (Nat.le_of_ble_eq_true rfl)) e2.2))
theorem r_X8_init_15 {Z : ZT} {d : Nat} {G : GH} {Q : TR → GH → Prop} {t : Nat} {x1 : Int} (h : Q (.inl none) (G)) : TW Z mi_X8_init (d + 1) 15 [some (tR (some t)), some (tI x1)] [] G Q :=
  tw_vret dX8_init_15 rfl h
theorem lp_X8_19 : FPf "CrossbarExchange$Path" 19 101 (.int) := ⟨("CrossbarExchange$Path", "middle", "I", true), rfl, rfl, by decide +kernel, rfl, q1825⟩
theorem kc_8_101 : kwb 8 101 = true := by decide +kernel
theorem fy_101 : fy 101 = 0 := by decide +kernel
theorem lp_X8_23 : FPf "CrossbarExchange$Path" 23 102 (.int) := ⟨("CrossbarExchange$Path", "p", "I", true), rfl, rfl, by decide +kernel, rfl, q1828⟩
theorem kc_8_102 : kwb 8 102 = true := by decide +kernel
theorem fy_102 : fy 102 = 0 := by decide +kernel
theorem lp_X8_26 : FPf "CrossbarExchange$Path" 26 103 (.int) := ⟨("CrossbarExchange$Path", "q", "I", true), rfl, rfl, by decide +kernel, rfl, q1831⟩
theorem kc_8_103 : kwb 8 103 = true := by decide +kernel
theorem fy_103 : fy 103 = 0 := by decide +kernel
theorem lp_X8_29 : FPf "CrossbarExchange$Path" 29 104 (.object "java/util/List") := ⟨("CrossbarExchange$Path", "chain", "Ljava/util/List;", true), rfl, rfl, by decide +kernel, rfl, q1834⟩
theorem kc_8_104 : kwb 8 104 = true := by decide +kernel
theorem fy_104 : fy 104 = 1 := by decide +kernel
theorem c_X8_init_2 {Z : ZT} {d : Nat} {G : GH} {Q : TR → GH → Prop} {t : Nat} {x1 : Int} {x2 : Int} {x3 : Int} {r4 : Option Nat} (h : (gK (G) t = 8) ∧ Q (.inl none) (setR (setI (setI (setI (G) 101 t x1) 102 t x2) 103 t x3) 104 t r4)) : TC Z (d + 1) mi_X8_init_2 [tR (some t), tI x1, tI x2, tI x3, tR r4] G Q :=
  tc_of pl_X8_init_2 (cats_cons (cat_R _) (cats_cons (cat_I _) (cats_cons (cat_I _) (cats_cons (cat_I _) (cats_cons (cat_R _) (cats_nil)))))) (Nat.le_of_ble_eq_true rfl) (show TW Z mi_X8_init_2 (d + 1) 0 [some (tR (some t)), some (tI x1), some (tI x2), some (tI x3), some (tR r4)] [] G Q from tw_aload_n dX8_init_2_0 rfl (tw_objInit dX8_init_2_1 q1824 q209 q210 (Nat.le_of_ble_eq_true rfl) (tw_aload_n dX8_init_2_4 rfl (tw_iload_n dX8_init_2_5 rfl (tw_putIf dX8_init_2_6 rfl lp_X8_19 fy_101 (kw1 8 h.1 kc_8_101) (tw_aload_n dX8_init_2_9 rfl (tw_iload_n dX8_init_2_10 rfl (tw_putIf dX8_init_2_11 rfl lp_X8_23 fy_102 (kw1 8 h.1 kc_8_102) (tw_aload_n dX8_init_2_14 rfl (tw_iload_n dX8_init_2_15 rfl (tw_putIf dX8_init_2_16 rfl lp_X8_26 fy_103 (kw1 8 h.1 kc_8_103) (tw_aload_n dX8_init_2_19 rfl (tw_aload dX8_init_2_20 rfl (tw_putRf dX8_init_2_22 rfl lp_X8_29 fy_104 rfl (kw1 8 h.1 kc_8_104) (tw_vret dX8_init_2_25 rfl h.2)))))))))))))))
abbrev mi_X8_length : MI := (yX8_length, cX8_length, 1, some .int, [])
theorem wi_X8_length : mW mi_X8_length ∈ lw_all := q1865
theorem np_X8_length : NP (mN mi_X8_length) 0 := np_of (by decide +kernel)
theorem nh_X8_length : NMH (mN mi_X8_length).cls := ⟨by decide +kernel, by decide +kernel⟩
theorem pl_X8_length : plainFor (mN mi_X8_length) = true := plainFor_of_name (by decide +kernel)
theorem lk_X8_29 : FLk "CrossbarExchange$Path" 29 104 := ⟨("CrossbarExchange$Path", "chain", "Ljava/util/List;", true), "CrossbarExchange$Path", rfl, Or.inl rfl, Or.inl q1834⟩
theorem kb_8_104 : kfb 8 104 = true := by decide +kernel
theorem c_X8_length {Z : ZT} {d : Nat} {G : GH} {Q : TR → GH → Prop} {t : Nat} (h : (gK (G) t = 8) ∧ ∀ v1, fR G 104 t = v1 → ∃ a3, v1 = some a3 ∧ (gK (G) a3 = 15) ∧ TC Z d mi_J7_size [tR (some a3)] (G) (KQ Z mi_X8_length (d + 1) 4 9 [some (tR (some t))] [] Q)) : TC Z (d + 1) mi_X8_length [tR (some t)] G Q :=
  tc_of pl_X8_length (cats_cons (cat_R _) (cats_nil)) (Nat.le_of_ble_eq_true rfl) (show TW Z mi_X8_length (d + 1) 0 [some (tR (some t))] [] G Q from tw_aload_n dX8_length_0 rfl (with_v (fR G 104 t) (fun v1 e2 => tw_getR dX8_length_1 lk_X8_29 fy_104 (kf1 8 h.1 kb_8_104) (e2) (Exists.elim (h.2 v1 e2) (fun a3 e4 => tw_der0 e4.1 (tw_call wi_J7_size q161 (by decide) (mech_F0 (rest := []) dX8_length_4 q1867 q545 q544 q549 q547 q457 q546 q548 wi_J7_size rfl (show NMH "java/util/List" from ⟨by decide +kernel, by decide +kernel⟩) npx_8 (rc_of e4.2.1 cl_14) (Nat.le_of_ble_eq_true rfl)) e4.2.2))))))
theorem r_X8_length_9 {Z : ZT} {d : Nat} {G : GH} {Q : TR → GH → Prop} {t : Nat} {s0 : Int} (h : Q (.inl (some (tI s0))) (G)) : TW Z mi_X8_length (d + 1) 9 [some (tR (some t))] [tI s0] G Q :=
  tw_iret dX8_length_9 rfl h
abbrev mi_X8_isOpen : MI := (yX8_isOpen, cX8_isOpen, 1, some .boolean, [])
theorem wi_X8_isOpen : mW mi_X8_isOpen ∈ lw_all := q1920
theorem np_X8_isOpen : NP (mN mi_X8_isOpen) 0 := np_of (by decide +kernel)
theorem nh_X8_isOpen : NMH (mN mi_X8_isOpen).cls := ⟨by decide +kernel, by decide +kernel⟩
theorem pl_X8_isOpen : plainFor (mN mi_X8_isOpen) = true := plainFor_of_name (by decide +kernel)
theorem npx_10 : NP (⟨"java/util/List", "isEmpty", "()Z"⟩ : MethodName) 0 := np_of (by decide +kernel)
theorem c_X8_isOpen {Z : ZT} {d : Nat} {G : GH} {Q : TR → GH → Prop} {t : Nat} (h : (gK (G) t = 8) ∧ ∀ v1, fR G 104 t = v1 → ∃ a3, v1 = some a3 ∧ (gK (G) a3 = 15) ∧ TC Z d mi_J7_isEmpty [tR (some a3)] (G) (KQ Z mi_X8_isOpen (d + 1) 4 9 [some (tR (some t))] [] Q)) : TC Z (d + 1) mi_X8_isOpen [tR (some t)] G Q :=
  tc_of pl_X8_isOpen (cats_cons (cat_R _) (cats_nil)) (Nat.le_of_ble_eq_true rfl) (show TW Z mi_X8_isOpen (d + 1) 0 [some (tR (some t))] [] G Q from tw_aload_n dX8_isOpen_0 rfl (with_v (fR G 104 t) (fun v1 e2 => tw_getR dX8_isOpen_1 lk_X8_29 fy_104 (kf1 8 h.1 kb_8_104) (e2) (Exists.elim (h.2 v1 e2) (fun a3 e4 => tw_der0 e4.1 (tw_call wi_J7_isEmpty q161 (by decide) (mech_F0 (rest := []) dX8_isOpen_4 q1922 q1924 q1923 q1928 q1926 q457 q1925 q1927 wi_J7_isEmpty rfl (show NMH "java/util/List" from ⟨by decide +kernel, by decide +kernel⟩) npx_10 (rc_of e4.2.1 cl_14) (Nat.le_of_ble_eq_true rfl)) e4.2.2))))))
theorem r_X8_isOpen_9 {Z : ZT} {d : Nat} {G : GH} {Q : TR → GH → Prop} {t : Nat} {s0 : Int} (h : (s0 = 0 ∨ s0 = 1) ∧ Q (.inl (some (tI s0))) (G)) : TW Z mi_X8_isOpen (d + 1) 9 [some (tR (some t))] [tI s0] G Q :=
  tw_zret dX8_isOpen_9 rfl h.1 h.2
abbrev mi_X9_init : MI := (yX9_init, cX9_init, 6, none, [])
theorem wi_X9_init : mW mi_X9_init ∈ lw_all := q1876
theorem np_X9_init : NP (mN mi_X9_init) 5 := np_of (by decide +kernel)
theorem nh_X9_init : NMH (mN mi_X9_init).cls := ⟨by decide +kernel, by decide +kernel⟩
theorem pl_X9_init : plainFor (mN mi_X9_init) = true := plainFor_of_name (by decide +kernel)
theorem lp_X9_9 : FPk "CrossbarExchange$Call" 9 110 (.int) := ⟨("CrossbarExchange$Call", "middle", "I", false), "CrossbarExchange$Call", rfl, rfl, by decide +kernel, Or.inl rfl, Or.inl q1892⟩
theorem kc_9_110 : kwb 9 110 = true := by decide +kernel
theorem fy_110 : fy 110 = 0 := by decide +kernel
theorem lp_X9_15 : FPf "CrossbarExchange$Call" 15 105 (.int) := ⟨("CrossbarExchange$Call", "number", "I", true), rfl, rfl, by decide +kernel, rfl, q1878⟩
theorem kc_9_105 : kwb 9 105 = true := by decide +kernel
theorem fy_105 : fy 105 = 0 := by decide +kernel
theorem lp_X9_18 : FPf "CrossbarExchange$Call" 18 106 (.int) := ⟨("CrossbarExchange$Call", "caller", "I", true), rfl, rfl, by decide +kernel, rfl, q1881⟩
theorem kc_9_106 : kwb 9 106 = true := by decide +kernel
theorem fy_106 : fy 106 = 0 := by decide +kernel
theorem lp_X9_21 : FPf "CrossbarExchange$Call" 21 107 (.int) := ⟨("CrossbarExchange$Call", "callee", "I", true), rfl, rfl, by decide +kernel, rfl, q1884⟩
theorem kc_9_107 : kwb 9 107 = true := by decide +kernel
theorem fy_107 : fy 107 = 0 := by decide +kernel
theorem lp_X9_24 : FPf "CrossbarExchange$Call" 24 108 (.int) := ⟨("CrossbarExchange$Call", "began", "I", true), rfl, rfl, by decide +kernel, rfl, q1887⟩
theorem kc_9_108 : kwb 9 108 = true := by decide +kernel
theorem fy_108 : fy 108 = 0 := by decide +kernel
theorem lp_X9_27 : FPf "CrossbarExchange$Call" 27 109 (.int) := ⟨("CrossbarExchange$Call", "lasts", "I", true), rfl, rfl, by decide +kernel, rfl, q1889⟩
theorem kc_9_109 : kwb 9 109 = true := by decide +kernel
theorem fy_109 : fy 109 = 0 := by decide +kernel
theorem c_X9_init {Z : ZT} {d : Nat} {G : GH} {Q : TR → GH → Prop} {t : Nat} {x1 : Int} {x2 : Int} {x3 : Int} {x4 : Int} {x5 : Int} (h : (gK (G) t = 9) ∧ Q (.inl none) (setI (setI (setI (setI (setI (setI (G) 110 t (-1)) 105 t x1) 106 t x2) 107 t x3) 108 t x4) 109 t x5)) : TC Z (d + 1) mi_X9_init [tR (some t), tI x1, tI x2, tI x3, tI x4, tI x5] G Q :=
  tc_of pl_X9_init (cats_cons (cat_R _) (cats_cons (cat_I _) (cats_cons (cat_I _) (cats_cons (cat_I _) (cats_cons (cat_I _) (cats_cons (cat_I _) (cats_nil))))))) (Nat.le_of_ble_eq_true rfl) (show TW Z mi_X9_init (d + 1) 0 [some (tR (some t)), some (tI x1), some (tI x2), some (tI x3), some (tI x4), some (tI x5)] [] G Q from tw_aload_n dX9_init_0 rfl (tw_objInit dX9_init_1 q1877 q209 q210 (Nat.le_of_ble_eq_true rfl) (tw_aload_n dX9_init_4 rfl (tw_iconst dX9_init_5 (tw_putI dX9_init_6 lp_X9_9 fy_110 (kw1 9 h.1 kc_9_110) (tw_aload_n dX9_init_9 rfl (tw_iload_n dX9_init_10 rfl (tw_putIf dX9_init_11 rfl lp_X9_15 fy_105 (kw1 9 h.1 kc_9_105) (tw_aload_n dX9_init_14 rfl (tw_iload_n dX9_init_15 rfl (tw_putIf dX9_init_16 rfl lp_X9_18 fy_106 (kw1 9 h.1 kc_9_106) (tw_aload_n dX9_init_19 rfl (tw_iload_n dX9_init_20 rfl (tw_putIf dX9_init_21 rfl lp_X9_21 fy_107 (kw1 9 h.1 kc_9_107) (tw_aload_n dX9_init_24 rfl (tw_iload dX9_init_25 rfl (tw_putIf dX9_init_27 rfl lp_X9_24 fy_108 (kw1 9 h.1 kc_9_108) (tw_aload_n dX9_init_30 rfl (tw_iload dX9_init_31 rfl (tw_putIf dX9_init_33 rfl lp_X9_27 fy_109 (kw1 9 h.1 kc_9_109) (tw_vret dX9_init_36 rfl h.2)))))))))))))))))))))
abbrev mi_X9_end : MI := (yX9_end, cX9_end, 1, some .int, [])
theorem wi_X9_end : mW mi_X9_end ∈ lw_all := q2063
theorem np_X9_end : NP (mN mi_X9_end) 0 := np_of (by decide +kernel)
theorem nh_X9_end : NMH (mN mi_X9_end).cls := ⟨by decide +kernel, by decide +kernel⟩
theorem pl_X9_end : plainFor (mN mi_X9_end) = true := plainFor_of_name (by decide +kernel)
theorem lk_X9_24 : FLk "CrossbarExchange$Call" 24 108 := ⟨("CrossbarExchange$Call", "began", "I", true), "CrossbarExchange$Call", rfl, Or.inl rfl, Or.inl q1887⟩
theorem kb_9_108 : kfb 9 108 = true := by decide +kernel
theorem lk_X9_27 : FLk "CrossbarExchange$Call" 27 109 := ⟨("CrossbarExchange$Call", "lasts", "I", true), "CrossbarExchange$Call", rfl, Or.inl rfl, Or.inl q1889⟩
theorem kb_9_109 : kfb 9 109 = true := by decide +kernel
theorem c_X9_end {Z : ZT} {d : Nat} {G : GH} {Q : TR → GH → Prop} {t : Nat} (h : (gK (G) t = 9) ∧ Q (.inl (some (tI (fI G 108 t + fI G 109 t)))) (G)) : TC Z (d + 1) mi_X9_end [tR (some t)] G Q :=
  tc_of pl_X9_end (cats_cons (cat_R _) (cats_nil)) (Nat.le_of_ble_eq_true rfl) (show TW Z mi_X9_end (d + 1) 0 [some (tR (some t))] [] G Q from tw_aload_n dX9_end_0 rfl (tw_getI dX9_end_1 lk_X9_24 fy_108 (kf1 9 h.1 kb_9_108) rfl (tw_aload_n dX9_end_4 rfl (tw_getI dX9_end_5 lk_X9_27 fy_109 (kf1 9 h.1 kb_9_109) rfl (tw_iadd dX9_end_8 (tw_iret dX9_end_9 rfl h.2))))))
abbrev mi_X9_copy : MI := (yX9_copy, cX9_copy, 2, some (.object "CrossbarExchange$Call"), [])
theorem wi_X9_copy : mW mi_X9_copy ∈ lw_all := q2165
theorem np_X9_copy : NP (mN mi_X9_copy) 0 := np_of (by decide +kernel)
theorem nh_X9_copy : NMH (mN mi_X9_copy).cls := ⟨by decide +kernel, by decide +kernel⟩
theorem pl_X9_copy : plainFor (mN mi_X9_copy) = true := plainFor_of_name (by decide +kernel)
theorem nw_8 : (FL 8).all (fun f => decide ((FT[f]?.bind (fun q => parseFieldDescriptor q.2.2.1)).map defaultValue = some (match fy f with | 0 => tI 0 | 1 => tR none | _ => .float 0))) = true := by decide +kernel
theorem cl_8 : CL[8]? = some (RX9, TX9, 7) := rfl
theorem lk_X9_15 : FLk "CrossbarExchange$Call" 15 105 := ⟨("CrossbarExchange$Call", "number", "I", true), "CrossbarExchange$Call", rfl, Or.inl rfl, Or.inl q1878⟩
theorem kb_9_105 : kfb 9 105 = true := by decide +kernel
theorem lk_X9_18 : FLk "CrossbarExchange$Call" 18 106 := ⟨("CrossbarExchange$Call", "caller", "I", true), "CrossbarExchange$Call", rfl, Or.inl rfl, Or.inl q1881⟩
theorem kb_9_106 : kfb 9 106 = true := by decide +kernel
theorem lk_X9_21 : FLk "CrossbarExchange$Call" 21 107 := ⟨("CrossbarExchange$Call", "callee", "I", true), "CrossbarExchange$Call", rfl, Or.inl rfl, Or.inl q1884⟩
theorem kb_9_107 : kfb 9 107 = true := by decide +kernel
theorem c_X9_copy {Z : ZT} {d : Nat} {G : GH} {Q : TR → GH → Prop} {t : Nat} (rg0 : Nat) (h : (gK (newG (G) 9 0 rg0 7) t = 9) ∧ TC Z d mi_X9_init [tR (some (gn G)), tI (fI G 105 t), tI (fI G 106 t), tI (fI G 107 t), tI (fI G 108 t), tI (fI G 109 t)] (newG (G) 9 0 rg0 7) (KQ Z mi_X9_copy (d + 1) 24 27 [some (tR (some t)), none] [tR (some (gn G))] Q)) : TC Z (d + 1) mi_X9_copy [tR (some t)] G Q :=
  tc_of pl_X9_copy (cats_cons (cat_R _) (cats_nil)) (Nat.le_of_ble_eq_true rfl) (show TW Z mi_X9_copy (d + 1) 0 [some (tR (some t)), none] [] G Q from tw_new rg0 dX9_copy_0 cl_8 q2166 q1873 q192 nw_8 (tw_dup dX9_copy_3 (cat_R _) (tw_aload_n dX9_copy_4 rfl (tw_getI dX9_copy_5 lk_X9_15 fy_105 (kf1 9 h.1 kb_9_105) ((rfl : fI (newG (G) 9 0 rg0 7) 105 t = fI (G) 105 t).trans rfl) (tw_aload_n dX9_copy_8 rfl (tw_getI dX9_copy_9 lk_X9_18 fy_106 (kf1 9 h.1 kb_9_106) ((rfl : fI (newG (G) 9 0 rg0 7) 106 t = fI (G) 106 t).trans rfl) (tw_aload_n dX9_copy_12 rfl (tw_getI dX9_copy_13 lk_X9_21 fy_107 (kf1 9 h.1 kb_9_107) ((rfl : fI (newG (G) 9 0 rg0 7) 107 t = fI (G) 107 t).trans rfl) (tw_aload_n dX9_copy_16 rfl (tw_getI dX9_copy_17 lk_X9_24 fy_108 (kf1 9 h.1 kb_9_108) ((rfl : fI (newG (G) 9 0 rg0 7) 108 t = fI (G) 108 t).trans rfl) (tw_aload_n dX9_copy_20 rfl (tw_getI dX9_copy_21 lk_X9_27 fy_109 (kf1 9 h.1 kb_9_109) ((rfl : fI (newG (G) 9 0 rg0 7) 109 t = fI (G) 109 t).trans rfl) (tw_call wi_X9_init q192 (by decide) (mech_I5 (rest := [tR (some (gn G))]) dX9_copy_24 q2167 q1875 wi_X9_init rfl rfl rfl nh_X9_init np_X9_init (Nat.le_of_ble_eq_true rfl)) h.2)))))))))))))
theorem lk_X9_9 : FLk "CrossbarExchange$Call" 9 110 := ⟨("CrossbarExchange$Call", "middle", "I", false), "CrossbarExchange$Call", rfl, Or.inl rfl, Or.inl q1892⟩
theorem kb_9_110 : kfb 9 110 = true := by decide +kernel
theorem lk_X9_33 : FLk "CrossbarExchange$Call" 33 111 := ⟨("CrossbarExchange$Call", "moved", "I", false), "CrossbarExchange$Call", rfl, Or.inl rfl, Or.inl q1895⟩
theorem kb_9_111 : kfb 9 111 = true := by decide +kernel
theorem fy_111 : fy 111 = 0 := by decide +kernel
theorem lp_X9_33 : FPk "CrossbarExchange$Call" 33 111 (.int) := ⟨("CrossbarExchange$Call", "moved", "I", false), "CrossbarExchange$Call", rfl, rfl, by decide +kernel, Or.inl rfl, Or.inl q1895⟩
theorem kc_9_111 : kwb 9 111 = true := by decide +kernel
theorem r_X9_copy_27 {Z : ZT} {d : Nat} {G : GH} {Q : TR → GH → Prop} {t : Nat} {o1 : Option Value} {u0 : Option Nat} (h : (gK (G) t = 9) ∧ ∃ a1, u0 = some a1 ∧ (gK (G) a1 = 9) ∧ ∃ a3, u0 = some a3 ∧ (gK (G) a3 = 9) ∧ Q (.inl (some (tR u0))) (setI (setI (G) 110 a1 (fI G 110 t)) 111 a3 (fI G 111 t))) : TW Z mi_X9_copy (d + 1) 27 [some (tR (some t)), o1] [tR u0] G Q :=
  tw_astore_n dX9_copy_27 (by decide) (fun w _ hw => by cases hw; exact cat_R _) (tw_aload_n dX9_copy_28 rfl (tw_aload_n dX9_copy_29 rfl (tw_getI dX9_copy_30 lk_X9_9 fy_110 (kf1 9 h.1 kb_9_110) rfl (Exists.elim h.2 (fun a1 e2 => tw_der1 e2.1 (tw_putI dX9_copy_33 lp_X9_9 fy_110 (kw1 9 e2.2.1 kc_9_110) (tw_aload_n dX9_copy_36 rfl (tw_aload_n dX9_copy_37 rfl (tw_getI dX9_copy_38 lk_X9_33 fy_111 (kf1 9 h.1 kb_9_111) ((fI_ne (by decide)).trans rfl) (Exists.elim e2.2.2 (fun a3 e4 => tw_der1 e4.1 (tw_putI dX9_copy_41 lp_X9_33 fy_111 (kw1 9 e4.2.1 kc_9_111) (tw_aload_n dX9_copy_44 rfl (tw_aret dX9_copy_45 rfl rfl e4.2.2))))))))))))))
abbrev mi_X9_other : MI := (yX9_other, cX9_other, 2, some .int, [])
theorem wi_X9_other : mW mi_X9_other ∈ lw_all := q2632
theorem np_X9_other : NP (mN mi_X9_other) 1 := np_of (by decide +kernel)
theorem nh_X9_other : NMH (mN mi_X9_other).cls := ⟨by decide +kernel, by decide +kernel⟩
theorem pl_X9_other : plainFor (mN mi_X9_other) = true := plainFor_of_name (by decide +kernel)
theorem c_X9_other {Z : ZT} {d : Nat} {G : GH} {Q : TR → GH → Prop} {t : Nat} {x1 : Int} (h : (gK (G) t = 9) ∧ (inR (fI G 106 t)) ∧ (inR x1) ∧ ((¬ fI G 106 t = x1 → Q (.inl (some (tI (fI G 106 t)))) (G)) ∧ (fI G 106 t = x1 → Q (.inl (some (tI (fI G 107 t)))) (G)))) : TC Z (d + 1) mi_X9_other [tR (some t), tI x1] G Q :=
  tc_of pl_X9_other (cats_cons (cat_R _) (cats_cons (cat_I _) (cats_nil))) (Nat.le_of_ble_eq_true rfl) (show TW Z mi_X9_other (d + 1) 0 [some (tR (some t)), some (tI x1)] [] G Q from tw_aload_n dX9_other_0 rfl (tw_getI dX9_other_1 lk_X9_18 fy_106 (kf1 9 h.1 kb_9_106) rfl (tw_iload_n dX9_other_4 rfl (tw_icmp_ne (tgt := 15) dX9_other_5 (by decide) h.2.1 h.2.2.1 (fun c1 => tw_aload_n dX9_other_15 rfl (tw_getI dX9_other_16 lk_X9_18 fy_106 (kf1 9 h.1 kb_9_106) rfl (tw_iret dX9_other_19 rfl (h.2.2.2.1 c1)))) (fun c1 => tw_aload_n dX9_other_8 rfl (tw_getI dX9_other_9 lk_X9_21 fy_107 (kf1 9 h.1 kb_9_107) rfl (tw_goto (tgt := 19) dX9_other_12 (by decide) (tw_iret dX9_other_19 rfl (h.2.2.2.2 c1)))))))))
