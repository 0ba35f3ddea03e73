/-! THE EXCHANGE, 23: cutting and mending a middle -/
section CUT
variable {Z : ZT} {d : Nat} {G : GH} {Q : TR → GH → Prop} {e b : Nat} {S S' T T' : St}
/-- only the set of what is cut changes -/
theorem Rep.cutset {G' : GH} {v : Int} (R : Rep Z G e b S S) (m : Md (Ow G (b + 4)) G G') (w : CutE Z G' b (up2 S 0 41 v)) : Rep Z G' e b (up2 S 0 41 v) (up2 S 0 41 v) ∧ CgE e b G G' ∧ capM G' (b + 2) = capM G (b + 2) ∧ WL G' b = WL G b ∧ ∀ x, callA G' b (up2 S 0 41 v) x = callA G b S x := by
  obtain ⟨n1, n2, n3, n4, n5⟩ := R.1.own_no (j := 4) (by decide)
  have fp : FP G (Ow G (b + 4)) := R.1.fp.mono n5
  have se := m.sm R.1.2.1 n1
  have o2 := n3 2 (by decide) (by decide) (by decide)
  have h0 : ∀ k, k ≠ 41 → up2 S 0 41 v 0 k = S 0 k := fun k hk => up2_ne (Or.inr hk)
  have hr : ∀ f, f ≠ 0 → up2 S 0 41 v f = S f := fun f hf => funext fun x => up2_ne (Or.inl hf)
  refine ⟨⟨R.1.md1 m (fun f => (se.2.2.2.1 f).2), (R.2.1.md1 R.1 m n1 (n2 8 (by decide) (by decide) (by decide))).eq (fun k _ _ h3 => h0 k h3) (hr 65 (by decide)), (R.2.2.1.md1 R.1 m (n2 1 (by decide) (by decide) (by decide)) (n2 10 (by decide) (by decide) (by decide)) (fun c hc => n4 _ (R.co hc).2.1 (R.co hc).1)).eq (fun k hk => h0 k (by omega)) (fun f h1 h2 => hr f (by omega)), ?_, w, ?_, ?_, ?_⟩, m.mono n5, capM_mv (R.2.2.2.1.choose_spec.choose_spec.1) m (n2 2 (by decide) (by decide) (by decide)), WL.md1 R.2.2.2.2.2.2.2 m (n3 7 (by decide) (by decide) (by decide)), fun x => (callA_eq (hr 48 (by decide)) x).trans (callA_md1 R.1 m (n2 1 (by decide) (by decide) (by decide)) x)⟩
  · exact (R.2.2.2.1.md1 R.1 m (n2 1 (by decide) (by decide) (by decide)) o2 fp).eq (hr 48 (by decide)) (h0 47 (by decide)) (hr 51 (by decide)) (h0 39 (by decide)) (h0 47 (by decide)) (hr 49 (by decide)) (hr 50 (by decide))
  · exact (R.tail.2.1.md1 m (n3 5 (by decide) (by decide) (by decide)) fp).eq (h0 60 (by decide)) (hr 61 (by decide)) (hr 62 (by decide))
  · exact (R.tail.2.2.1.md1 m (n3 6 (by decide) (by decide) (by decide)) fp).eq (h0 60 (by decide)) (hr 61 (by decide)) (hr 62 (by decide)) (hr 63 (by decide)) (hr 64 (by decide))
  · exact (R.tail.2.2.2.md1 m (n3 7 (by decide) (by decide) (by decide)) fp).eq (h0 55 (by decide)) (fun f h1 h2 => hr f (by omega))
theorem lvM_le (c : Nat) : lvM c ≤ 3 := by
  unfold lvM
  repeat' split
  all_goals omega
theorem inOrd_one {m : Nat} {v : Int} (hm : (m : Int) < S 0 40) (hc : ∀ k : Nat, (k : Int) < S 0 40 → k ≠ m → isCutB (up2 S 0 41 v) (k : Int) = isCutB S (k : Int)) : inOrd (up2 S 0 41 v) = inOrd S + (b2i (!isCutB (up2 S 0 41 v) (m : Int)) - b2i (!isCutB S (m : Int))) := by
  unfold inOrd
  rw [up2_ne (Or.inr (by decide))]
  have h : sumI (fun k : Nat => b2i (!isCutB (up2 S 0 41 v) (k : Int))) (S 0 40).toNat 0 = sumI (fun k : Nat => if k < (S 0 40).toNat then b2i (!isCutB (up2 S 0 41 v) (k : Int)) else b2i (!isCutB S (k : Int))) (S 0 40).toNat 0 := sumI_congr _ _ (fun x _ hx => by rw [if_pos (by omega)])
  rw [h, sum_one (g := fun k : Nat => b2i (!isCutB S (k : Int))) (c := m) _ (by omega) (fun x hx => by
    split
    · rename_i hxl
      rw [hc x (by omega) hx]
    · rfl), if_pos (by omega)]
theorem cutNR (r40 : 1 ≤ S 0 40 ∧ S 0 40 ≤ 9) : 0 ≤ inOrd S ∧ inOrd S ≤ S 0 40 := by
  have h1 := sum_le_n (p := fun k : Nat => !isCutB S (k : Int)) (S 0 40).toNat
  have h0 := sum_mono (f := fun k : Nat => b2i (!isCutB S (k : Int))) (fun k => (b2i_01 _).1) (S 0 40).toNat 0
  rw [Nat.zero_add] at h0
  have h0' : 0 ≤ sumI (fun k : Nat => b2i (!isCutB S (k : Int))) (S 0 40).toNat 0 := h0
  unfold inOrd
  omega
theorem cutN (R : Rep Z G e b S T) (V : Inv S) : 0 ≤ inOrd S ∧ inOrd S ≤ S 0 40 := cutNR V.r40
/-- a middle is cut -/
theorem xc_cutsR {m : Nat} (r40 : 1 ≤ S 0 40 ∧ S 0 40 ≤ 9) (r41 : 0 ≤ S 0 41 ∧ S 0 41 ≤ 511) (R : Rep Z G e b S S) (E : EnvE Z G) (hm : (m : Int) < S 0 40) (hc : isCutB S (m : Int) = false)
    (q : ∀ G', OpR Z e b 4 134 G G' (up2 S 0 41 (ior (S 0 41) (ishl 1 (m : Int)))) → (∀ x, callA G' b (up2 S 0 41 (ior (S 0 41) (ishl 1 (m : Int)))) x = callA G b S x) → Q (.inl none) G') : TC Z (d + 9) mi_X2_cuts [tR (some e), tI (m : Int)] G Q := by
  obtain ⟨n, f, C, hn, hf⟩ := R.2.2.2.2.1
  have kb := cutNR r40
  have p3 : gP G (b + 3) = e := R.1.2.2.2.2.2.2.1 3 (by decide) (by decide)
  have le := R.1.2.2.1
  obtain ⟨-, add⟩ := cut_add r41 (m := (m : Int)) (by omega)
  have W1 : inOrd (up2 S 0 41 (ior (S 0 41) (ishl 1 (m : Int)))) = inOrd S + (0 - 1) := by
    rw [inOrd_one hm (fun k hk hne => by rw [add k (by omega) (by omega), decide_eq_false (show ¬ (k : Int) = (m : Int) by omega), Bool.or_false]), add m (by omega) (by omega), hc]
    simp only [decide_true, Bool.or_true, Bool.not_true, Bool.not_false]
    rfl
  have W2 : 0 ≤ inOrd (up2 S 0 41 (ior (S 0 41) (ishl 1 (m : Int)))) := by
    have h0 := sum_mono (f := fun k : Nat => b2i (!isCutB (up2 S 0 41 (ior (S 0 41) (ishl 1 (m : Int)))) (k : Int))) (fun k => (b2i_01 _).1) (up2 S 0 41 (ior (S 0 41) (ishl 1 (m : Int))) 0 40).toNat 0
    rw [Nat.zero_add] at h0
    exact h0
  refine c_X2_cuts ⟨R.k, fun v1 hv1 => jc_valueOf (d := d + 7) E.2.1 (by omega) (fun a ha => r_X2_cuts_8 ⟨b + 3, hv1.symm.trans R.1.2.2.2.2.2.1.2.2.2.1, C.1, ?_⟩)⟩
  refine js_add C (by rw [p3]; omega) ⟨ha, by omega, by omega⟩ (by omega) ((hf m hm).mpr hc) E.2.2.2 (fun G' md rm C' => r_X2_cuts_11 ?_)
  have W : CutE Z G' b (up2 S 0 41 (ior (S 0 41) (ishl 1 (m : Int)))) := by
    refine ⟨n + 1, _, C', ?_, fun k hk => ?_⟩
    · rw [W1, up2_ne (Or.inr (by decide))]
      omega
    · rw [up2_ne (Or.inr (by decide))] at hk
      rw [add k (by omega) (by omega)]
      by_cases h : k = m
      · subst h
        rw [updM_at, decide_eq_true rfl, Bool.or_true]
        exact ⟨fun z => (by cases z), fun z => (by cases z)⟩
      · rw [updM_ne (by omega), decide_eq_false (show ¬ (k : Int) = (m : Int) by omega), Bool.or_false]
        exact hf k hk
  obtain ⟨R', cg, cm, wl, cA⟩ := R.cutset md W
  have l0 := lvM_le (capM G (b + 4))
  refine q G' ⟨⟨cg, Rm.same cm (by unfold Rm at rm; omega) (by unfold Rm at rm; omega), R'⟩, fun x hx => by rw [wl] at hx; exact hx⟩ cA
theorem xc_cuts {m : Nat} (V : Inv S) (R : Rep Z G e b S S) (E : EnvE Z G) (hm : (m : Int) < S 0 40) (hc : isCutB S (m : Int) = false)
    (q : ∀ G', OpR Z e b 4 134 G G' (up2 S 0 41 (ior (S 0 41) (ishl 1 (m : Int)))) → (∀ x, callA G' b (up2 S 0 41 (ior (S 0 41) (ishl 1 (m : Int)))) x = callA G b S x) → Q (.inl none) G') : TC Z (d + 9) mi_X2_cuts [tR (some e), tI (m : Int)] G Q :=
  xc_cutsR V.r40 V.1.1.2.2.2.1 R E hm hc q
/-- mending -/
theorem xc_mend {m : Nat} (V : Ok S) (R : Rep Z G e b S S) (E : EnvE Z G) (hm : (m : Int) < S 0 40) (hc : isCutB S (m : Int) = true)
    (q : ∀ G', OpR Z e b (1017 * (S 0 55 - mends S (m : Int) 0 55).toNat) (5714 * (S 0 55 - mends S (m : Int) 0 55).toNat) G G' (mends S (m : Int)) → Q (.inl (some (tI (inOrd (mends S (m : Int)))))) G') : TC Z (d + 14) mi_X2_mend [tR (some e), tI (m : Int)] G Q := by
  have r40 := V.1.r40
  have r41 := V.1.1.1.2.2.2.1
  obtain ⟨n, f, C, hn, hf⟩ := R.2.2.2.2.1
  have kb := cutN R V.1
  have p3 : gP G (b + 3) = e := R.1.2.2.2.2.2.2.1 3 (by decide) (by decide)
  have le := R.1.2.2.1
  have k15 := R.1.2.2.2.2.2.1.2.2.2.1
  obtain ⟨-, del⟩ := cut_del r41 (m := (m : Int)) (by omega)
  have fm : f (m : Int) ≠ none := fun z => by rw [(hf m hm).mp z] at hc; cases hc
  have W0 : inOrd (up2 S 0 41 (iand (S 0 41) (ixor (ishl 1 (m : Int)) (-1)))) = inOrd S + 1 := by
    rw [inOrd_one hm (fun k hk hne => by rw [del k (by omega) (by omega), decide_eq_false (show ¬ (k : Int) = (m : Int) by omega)]; simp), del m (by omega) (by omega), hc]
    simp only [decide_true, Bool.not_true, Bool.and_false, Bool.not_false]
    rfl
  have i2 := cutN (S := up2 S 0 41 (iand (S 0 41) (ixor (ishl 1 (m : Int)) (-1)))) (Z := Z) (G := G) (e := e) (b := b) (T := S)
  have VM := V.mended (m := (m : Int)) ⟨by omega, hm⟩
  have h40 : inOrd S + 1 ≤ S 0 40 := by
    have h1 := sum_le_n (p := fun k : Nat => !isCutB (up2 S 0 41 (iand (S 0 41) (ixor (ishl 1 (m : Int)) (-1)))) (k : Int)) (S 0 40).toNat
    rw [← W0]
    unfold inOrd
    rw [up2_ne (Or.inr (by decide))]
    omega
  refine c_X2_mend ⟨R.k, fun v1 hv1 => jc_valueOf (d := d + 12) E.2.1 (by omega) (fun a ha => r_X2_mend_8 ⟨b + 3, hv1.symm.trans k15, C.1, ?_⟩)⟩
  refine js_del (d := d + 5) C (by rw [p3]; omega) ⟨ha, by omega, by omega⟩ (by omega) fm (fun G1 md n1 s1 C' => r_X2_mend_11 ?_)
  have W : CutE Z G1 b (up2 S 0 41 (iand (S 0 41) (ixor (ishl 1 (m : Int)) (-1)))) := by
    refine ⟨n - 1, _, C', ?_, fun k hk => ?_⟩
    · rw [W0, up2_ne (Or.inr (by decide))]
      omega
    · rw [up2_ne (Or.inr (by decide))] at hk
      rw [del k (by omega) (by omega)]
      by_cases h : k = m
      · subst h
        rw [updM_at, decide_eq_true rfl]
        simp
      · rw [updM_ne (by omega), decide_eq_false (show ¬ (k : Int) = (m : Int) by omega), Bool.not_false, Bool.and_true]
        exact hf k hk
  obtain ⟨R1, cg, cm, wl, cA⟩ := R.cutset md W
  have o1 : OpR Z e b 0 0 G G1 (up2 S 0 41 (iand (S 0 41) (ixor (ishl 1 (m : Int)) (-1)))) := ⟨⟨cg, Rm.same cm (by omega) (by omega), R1⟩, fun x hx => by rw [wl] at hx; exact hx⟩
  refine ⟨R1.k, xc_serve VM.1 R1 (E.op R o1) (fun G2 o2 => r_X2_mend_16 ⟨o2.1.2.2.k, xc_inOrder (d := d + 10) o2.1.2.2 (r_X2_mend_20 (q G2 ?_))⟩)⟩
  have e55 : up2 S 0 41 (iand (S 0 41) (ixor (ishl 1 (m : Int)) (-1))) 0 55 = S 0 55 := up2_ne (Or.inr (by decide))
  rw [e55] at o2
  exact (o1.trans o2).mono (by unfold mends; omega) (by unfold mends; omega)
end CUT
