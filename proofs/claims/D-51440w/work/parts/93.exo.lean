/-! THE EXCHANGE, 24: cutting a middle -/
section CUT2
variable {Z : ZT} {d : Nat} {G : GH} {Q : TR → GH → Prop} {e b : Nat} {S S' T T' : St}
theorem op_lift {c m : Nat} (R : Rep Z G e b S S) (W : RwS S) (C1 : Col S) (hc : c < (S 0 47).toNat) (hm : m ≤ 8) (hS : S 51 c = (m : Int))
    (q : ∀ G', OpR Z e b 0 0 G G' (up2 S 51 c (-1)) → (∀ x, callA G' b (up2 S 51 c (-1)) x = callA G b S x) → Q (.inl none) G') : TC Z (d + 6) mi_X2_lift [tR (some e), tR (some (callA G b S c))] G Q := by
  have C := R.co hc
  have hA : ∀ x, x = callA G b S c → gP G x = e ∧ gK G x = 9 := fun x hx => by rw [hx]; exact ⟨C.2.1, C.1⟩
  refine xc_lift R W SameR.rf C1 hc hm hS hS (fun G1 m1 n1 s1 c1 R1 => ?_)
  obtain ⟨-, -, -, cA, cg, -, -⟩ := R.pl m1 hA
  have w1 := WL.md1 R.2.2.2.2.2.2.2 m1 ((PL.no R.1 hA).2.2.1 7 (by decide) (by decide))
  exact q G1 ⟨⟨cg, Rm.same c1 (by omega) (by omega), R1⟩, fun x hx => by rw [w1] at hx; exact hx⟩ (fun x => (callA_eq (funext fun y => up2_ne (Or.inl (by decide))) x).trans (cA x))
/-- a new list -/
theorem jx_list {a0 : Nat} (hE : EnvE Z G) (h0 : a0 = gn G) (q : ∀ G', Md (fun _ => False) G G' → gn G' = gn G + 1 → gs G' = gs G + 3 → gP G' a0 = a0 → AL Z G' a0 [] → Q (.inl none) G') : TC Z (d + 3) mi_J7_init [tR (some a0)] (newG G 15 0 a0 3) Q := by
  subst h0
  have m0 : Md (fun _ => False) G (newG G 15 0 (gn G) 3) := Md.rf.new (Nat.le_refl _)
  have k0 : gK (newG G 15 0 (gn G) 3) (gn G) = 15 := gK_new
  have n0 : gn (newG G 15 0 (gn G) 3) = gn G + 1 := rfl
  have s0 : gs (newG G 15 0 (gn G) 3) = gs G + 3 := rfl
  have p0 : gP (newG G 15 0 (gn G) 3) (gn G) = gn G := gP_new (N := 3)
  have z0 : fI (newG G 15 0 (gn G) 3) 133 (gn G) = 0 := ((hE.2.2.2 (gn G) (Nat.le_refl _)).2.1 133).1
  generalize newG G 15 0 (gn G) 3 = G0 at *
  refine jc_init k0 (by omega) (hE.1.md m0) z0 (fun G1 m1 n1 s1 A1 => q G1 (m0.trans' m1 (fun c hc h => by omega)) (by omega) (by omega) ((m1.p (by omega)).trans p0) A1)
theorem range_snoc (c : Nat) (p : Nat → Bool) : (List.range (c + 1)).filter p = (List.range c).filter p ++ (if p c = true then [c] else []) := by
  rw [List.range_succ, List.filter_append]
  congr 1
  cases h : p c <;> simp [h]
/-- what is left of the calls that were cut -/
def remL (fl : Nat → Bool) (A : Nat → Nat) (r k c : Nat) : List Nat := ((List.range r).filter (fun x => fl (k + x))).map (fun x => A (c + x))
theorem remL_succ {fl : Nat → Bool} {A : Nat → Nat} {r k c : Nat} : remL fl A (r + 1) k c = (if fl k = true then [A c] else []) ++ remL fl A r (k + 1) (c + 1) := by
  have e : ((List.range r).map Nat.succ).filter (fun x => fl (k + x)) = ((List.range r).filter (fun x => fl (k + 1 + x))).map Nat.succ := by
    rw [List.filter_map]
    congr 1
    exact List.filter_congr (fun x _ => by show fl (k + (x + 1)) = _; rw [show k + (x + 1) = k + 1 + x by omega])
  unfold remL
  rw [List.range_succ_eq_map, List.filter_cons, e]
  have e2 : (((List.range r).filter (fun x => fl (k + 1 + x))).map Nat.succ).map (fun x => A (c + x)) = ((List.range r).filter (fun x => fl (k + 1 + x))).map (fun x => A (c + 1 + x)) := by
    rw [List.map_map]
    exact List.map_congr_left (fun x _ => by show A (c + (x + 1)) = _; rw [show c + (x + 1) = c + 1 + x by omega])
  cases h : fl k
  · rw [if_neg (by decide), e2]; rfl
  · rw [if_pos rfl, List.map_cons, e2]; rfl
theorem remL_congr {fl : Nat → Bool} {A A' : Nat → Nat} {r k c c' : Nat} (h : ∀ x, x < r → A (c + x) = A' (c' + x)) : remL fl A r k c = remL fl A' r k c' := by
  unfold remL
  exact List.map_congr_left (fun x hx => h x (List.mem_range.mp (List.mem_filter.mp hx).1))
theorem lift_all {m : Int} (h : 0 ≤ S 0 47) : liftS ((List.range (S 0 47).toNat).filter (fun x => decide (S 51 x = m))) S = lifted S (fun x => decide (S 51 x = m)) := by
  funext f x
  unfold liftS lifted
  by_cases h51 : f = 51 ∧ x < (S 0 47).toNat ∧ decide (S 51 x = m) = true
  · rw [if_pos h51, if_pos ⟨h51.1, List.mem_filter.mpr ⟨List.mem_range.mpr h51.2.1, h51.2.2⟩⟩]
  · rw [if_neg h51, if_neg (fun z => by
      have z2 : x ∈ (List.range (S 0 47).toNat).filter (fun x => decide (S 51 x = m)) := z.2
      obtain ⟨y1, y2⟩ := List.mem_filter.mp z2
      exact h51 ⟨z.1, List.mem_range.mp y1, y2⟩)]
theorem xc_cut {m : Nat} (V : Ok S) (R : Rep Z G e b S S) (E : EnvE Z G) (hm : (m : Int) < S 0 40) (hcut : isCutB S (m : Int) = false)
    (q : ∀ G', OpR Z e b 3192 17907 G G' (cuts S (m : Int)).2 → Q (.inl (some (tI (cuts S (m : Int)).1))) G') : TC Z (d + 12) mi_X2_cut [tR (some e), tI (m : Int)] G Q := by
  have r40 := V.1.r40
  have r46 := V.1.r46
  have r47 := V.1.r47
  have W := V.1.rw
  have l6 : ((List.range (S 0 47).toNat).filter (fun x => decide (S 51 x = (m : Int)))).length ≤ 6 := by
    have := load_le V.1 (m := (m : Int)) (by omega)
    unfold loadOf at this
    rw [sumI_len] at this
    omega
  have mono : ∀ c, c ≤ (S 0 47).toNat → ((List.range c).filter (fun x => decide (S 51 x = (m : Int)))).length ≤ 6 := fun c hc => by
    refine Nat.le_trans (List.Sublist.length_le (List.Sublist.filter _ ?_)) l6
    exact List.range_sublist.mpr hc
  -- one by one
  have main : ∀ (r k c : Nat) (cnt : Int) (S1 : St) (G1 : GH) (a : Nat) (pre : List Nat), CutI (fun c => decide (S 51 c = (m : Int))) r k c S1 → EnvE Z G1 → OpR Z e b (6 + 531 * pre.length) (147 + 2960 * pre.length) G G1 S1 → gP G1 a = a → AL Z G1 a (pre ++ remL (fun c => decide (S 51 c = (m : Int))) (callA G1 b S1) r k c) → pre.length + (remL (fun c => decide (S 51 c = (m : Int))) (callA G1 b S1) r k c).length ≤ 6 → 0 ≤ cnt → cnt ≤ pre.length →
      cutL (fun c => decide (S 51 c = (m : Int))) r k c cnt S1 = cuts S (m : Int) → TW Z mi_X2_cut (d + 12) 105 [some (tR (some e)), some (tI (m : Int)), some (tR (some a)), some (tI cnt), some (tI (pre.length : Int))] [] G1 Q := by
    intro r
    induction r with
    | zero =>
      intro k c cnt S1 G1 a pre I E1 o pa A l66 c0 c1 hf
      have hf : (cnt, S1) = cuts S (m : Int) := hf
      have A' : AL Z G1 a pre := by have := A; unfold remL at this; rw [List.range_zero, List.filter_nil, List.map_nil, List.append_nil] at this; exact this
      rw [← hf] at q
      refine r_X2_cut_105 ⟨a, rfl, A'.1, jc_size A' (r_X2_cut_113 ⟨by omega, by omega, fun _ => q G1 (o.mono (by omega) (by omega)), fun hn => by omega⟩)⟩
    | succ r ih =>
      intro k c cnt S1 G1 a pre I E1 o pa A l66 c0 c1 hf
      have R1 := o.1.2.2
      rw [remL_succ] at A l66
      rw [cutL] at hf
      cases hk : decide (S 51 k = (m : Int))
      · rw [hk, if_neg (by decide), List.nil_append] at A l66
        rw [if_pos hk] at hf
        exact ih (k + 1) (c + 1) cnt S1 G1 a pre (I.skip hk) E1 o pa A l66 c0 c1 hf
      · rw [hk, if_pos rfl] at A l66
        rw [if_neg (by rw [hk]; decide)] at hf
        obtain ⟨hc, h51⟩ := I.at hk
        rw [List.length_append, List.length_cons, List.length_nil] at l66
        have len : (pre ++ ([callA G1 b S1 c] ++ remL (fun c => decide (S 51 c = (m : Int))) (callA G1 b S1) r (k + 1) (c + 1))).length = pre.length + (1 + (remL (fun c => decide (S 51 c = (m : Int))) (callA G1 b S1) r (k + 1) (c + 1)).length) := by rw [List.length_append, List.length_append, List.length_cons, List.length_nil]
        have gx : (pre ++ ([callA G1 b S1 c] ++ remL (fun c => decide (S 51 c = (m : Int))) (callA G1 b S1) r (k + 1) (c + 1))).getD pre.length 0 = callA G1 b S1 c := getD_mid
        have C := R1.co hc
        have N : c + (r + 1) = (S1 0 47).toNat := I.2.2.1
        refine r_X2_cut_105 ⟨a, rfl, A.1, jc_size A (r_X2_cut_113 ⟨by omega, by rw [len]; omega, fun hn => by rw [len] at hn; omega, fun _ => ⟨a, rfl, A.1, jc_get (d := d + 8) A (by rw [len]; omega) ?_⟩⟩)⟩
        rw [gx]
        refine r_X2_cut_125 ⟨fun b' hb' => by cases hb'; exact C.1, e, rfl, R1.k, ?_⟩
        refine xc_isRouted I.1 R1 E1 hc h51 (fun h1 h2 G2 o2 cA2 => r_X2_cut_131 ⟨by decide, fun hn => absurd rfl hn, fun _ => ?_⟩) (fun h1 G2 o2 cA2 => r_X2_cut_131 ⟨by decide, fun _ => ?_, fun hn => absurd hn (by decide)⟩)
        · obtain ⟨I2, -, -⟩ := I.drop hk
          rw [if_pos h1] at hf
          rw [h2] at I2 hf
          have A2 := A.fp pa o2.1.1 R1.1.fp
          have eL : remL (fun c => decide (S 51 c = (m : Int))) (callA G1 b S1) r (k + 1) (c + 1) = remL (fun c => decide (S 51 c = (m : Int))) (callA G2 b (addAcc (delRow S1 c) 7 1)) r (k + 1) c := remL_congr (fun x hx => by
            rw [cA2 (c + x) (by omega), show shf c (c + x) = c + 1 + x by unfold shf; rw [if_neg (by omega)]; omega])
          rw [eL] at l66 A2
          have res := ih (k + 1) c (cnt + 1) _ G2 a (pre ++ [callA G1 b S1 c]) I2 (E1.op R1 o2) ((o.trans o2).mono (by rw [List.length_append, List.length_cons, List.length_nil]; omega) (by rw [List.length_append, List.length_cons, List.length_nil]; omega)) ((o2.1.1.p A.2.1).trans pa) (by rw [List.append_assoc]; exact A2) (by rw [List.length_append, List.length_cons, List.length_nil]; omega) (by omega) (by rw [List.length_append, List.length_cons, List.length_nil]; omega) hf
          rw [show ((pre ++ [callA G1 b S1 c]).length : Int) = (pre.length : Int) + 1 by simp] at res
          exact res
        · obtain ⟨I2, -⟩ := I.put hk h1
          rw [if_neg h1] at hf
          have A2 := A.fp pa o2.1.1 R1.1.fp
          have eL : remL (fun c => decide (S 51 c = (m : Int))) (callA G1 b S1) r (k + 1) (c + 1) = remL (fun c => decide (S 51 c = (m : Int))) (callA G2 b (rerouted S1 c)) r (k + 1) (c + 1) := remL_congr (fun x hx => by rw [cA2])
          rw [eL] at l66 A2
          have res := ih (k + 1) (c + 1) cnt _ G2 a (pre ++ [callA G1 b S1 c]) I2 (E1.op R1 o2) ((o.trans o2).mono (by rw [List.length_append, List.length_cons, List.length_nil]; omega) (by rw [List.length_append, List.length_cons, List.length_nil]; omega)) ((o2.1.1.p A.2.1).trans pa) (by rw [List.append_assoc]; exact A2) (by rw [List.length_append, List.length_cons, List.length_nil]; omega) c0 (by rw [List.length_append, List.length_cons, List.length_nil]; omega) hf
          rw [show ((pre ++ [callA G1 b S1 c]).length : Int) = (pre.length : Int) + 1 by simp] at res
          exact res
  -- lifting them
  have lift : ∀ (post pre : List Nat) (G1 : GH) (a : Nat) (o4 : Option Value), (List.range (S 0 47).toNat).filter (fun x => decide (S 51 x = (m : Int))) = pre ++ post → EnvE Z G1 → OpR Z e b 2 13 G G1 (liftS pre S) → (∀ x, callA G1 b (liftS pre S) x = callA G b S x) → gP G1 a = a → AL Z G1 a (((List.range (S 0 47).toNat).filter (fun x => decide (S 51 x = (m : Int)))).map (callA G b S)) →
      TW Z mi_X2_cut (d + 12) 65 [some (tR (some e)), some (tI (m : Int)), some (tR (some a)), some (tI (pre.length : Int)), o4] [] G1 Q := by
    intro post
    induction post with
    | nil =>
      intro pre G1 a o4 hp E1 o cA pa A
      have R1 := o.1.2.2
      rw [List.append_nil] at hp
      have ll : pre.length ≤ 6 := by rw [← hp]; exact l6
      have lenA : ((((List.range (S 0 47).toNat).filter (fun x => decide (S 51 x = (m : Int)))).map (callA G b S)).length) = pre.length := by rw [List.length_map, hp]
      refine r_X2_cut_65 ⟨a, rfl, A.1, jc_size A (r_X2_cut_72 ⟨by omega, by rw [lenA]; omega, fun _ => ⟨R1.k, ?_⟩, fun hn => by rw [lenA] at hn; omega⟩)⟩
      rw [← hp, lift_all r47.1] at o cA R1
      have VL := V.1.lift (fun x => decide (S 51 x = (m : Int)))
      have lo : ∀ f x, f ≠ 51 → lifted S (fun x => decide (S 51 x = (m : Int))) f x = S f x := fun f x h => lifted_off h
      have cl : isCutB (lifted S (fun x => decide (S 51 x = (m : Int)))) (m : Int) = false := by unfold isCutB at hcut ⊢; rw [lo 0 41 (by decide)]; exact hcut
      refine xc_cuts (d := d + 2) VL R1 E1 (by rw [lo 0 40 (by decide)]; exact hm) cl (fun G2 o2 cA2 => r_X2_cut_100 ?_)
      rw [lo 0 41 (by decide), ← lifted_up] at o2 cA2
      have cs := cut_start V (m := (m : Int)) ⟨by omega, hm⟩
      have E2 := E1.op R1 o2
      have A2 := A.fp pa o2.1.1 R1.1.fp
      have eA : callA G2 b (lifted (up2 S 0 41 (ior (S 0 41) (ishl 1 (m : Int)))) (fun x => decide (S 51 x = (m : Int)))) = callA G b S := funext fun x => (cA2 x).trans (cA x)
      have eR : remL (fun c => decide (S 51 c = (m : Int))) (callA G2 b (lifted (up2 S 0 41 (ior (S 0 41) (ishl 1 (m : Int)))) (fun x => decide (S 51 x = (m : Int))))) (S 0 47).toNat 0 0 = ((List.range (S 0 47).toNat).filter (fun x => decide (S 51 x = (m : Int)))).map (callA G b S) := by
        rw [eA]
        unfold remL
        simp only [Nat.zero_add]
      exact main (S 0 47).toNat 0 0 0 _ G2 a [] cs E2 ((o.trans o2).mono (by simp) (by simp)) ((o2.1.1.p A.2.1).trans pa) (by rw [List.nil_append, eR]; exact A2) (by rw [eR, List.length_map]; simp only [List.length_nil]; omega) (Int.le_refl _) (by simp) rfl
    | cons x post ih =>
      intro pre G1 a o4 hp E1 o cA pa A
      have R1 := o.1.2.2
      have xin : x ∈ (List.range (S 0 47).toNat).filter (fun x => decide (S 51 x = (m : Int))) := by rw [hp]; simp
      obtain ⟨x1, x2⟩ := List.mem_filter.mp xin
      have x1 := List.mem_range.mp x1
      have x2 := of_decide_eq_true x2
      have nd : ((List.range (S 0 47).toNat).filter (fun x => decide (S 51 x = (m : Int)))).Nodup := List.nodup_range.filter _
      have ndx : x ∉ pre := fun hx => by
        rw [hp] at nd
        exact (List.nodup_append.mp nd).2.2 x hx x (by simp) rfl
      have lenA : ((((List.range (S 0 47).toNat).filter (fun x => decide (S 51 x = (m : Int)))).map (callA G b S)).length) = pre.length + (post.length + 1) := by rw [List.length_map, hp, List.length_append, List.length_cons]
      have ll : pre.length + (post.length + 1) ≤ 6 := by rw [← lenA, List.length_map]; exact l6
      have gx : (((List.range (S 0 47).toNat).filter (fun x => decide (S 51 x = (m : Int)))).map (callA G b S)).getD pre.length 0 = callA G b S x := by
        rw [hp, List.map_append, List.map_cons]
        have := getD_mid (pre := pre.map (callA G b S)) (post := post.map (callA G b S)) (x := callA G b S x) (d := 0)
        rw [List.length_map] at this
        exact this
      have W1 : RwS (liftS pre S) := W.eq (liftS_ne (by decide)) (liftS_ne (by decide)) (funext fun x => liftS_ne (by decide)) (funext fun x => liftS_ne (by decide)) (funext fun x => liftS_ne (by decide))
      have hc1 : x < (liftS pre S 0 47).toNat := by rw [liftS_ne (by decide)]; exact x1
      have CO := R1.co hc1
      rw [cA] at CO
      refine r_X2_cut_65 ⟨a, rfl, A.1, jc_size A (r_X2_cut_72 ⟨by omega, by rw [lenA]; omega, fun hn => by rw [lenA] at hn; omega, fun _ => ⟨a, rfl, A.1, jc_get (d := d + 8) A (by rw [lenA]; omega) ?_⟩⟩)⟩
      rw [gx]
      refine r_X2_cut_83 ⟨fun b' hb' => by cases hb'; exact CO.1, e, rfl, R1.k, ?_⟩
      rw [← cA x]
      refine op_lift (d := d + 5) (m := m) R1 W1 V.1.2.1.lift hc1 (by omega) ((liftS_out ndx).trans x2) (fun G2 o2 cA2 => r_X2_cut_89 ?_)
      rw [up_lift] at o2 cA2
      have res := ih (pre ++ [x]) G2 a o4 (by rw [hp]; simp) (E1.op R1 o2) ((o.trans o2).mono (by omega) (by omega)) (fun y => (cA2 y).trans (cA y)) ((o2.1.1.p A.2.1).trans pa) (A.fp pa o2.1.1 R1.1.fp)
      rw [show ((pre ++ [x]).length : Int) = (pre.length : Int) + 1 by simp] at res
      exact res
  -- finding them
  have find : ∀ (r k c : Nat) (G1 : GH) (a : Nat) (o4 : Option Value), k + r = (S 0 46).toNat → PtrI S k c → gn G ≤ a → gP G1 a = a → Md (fun _ => False) G G1 → gn G1 ≤ gn G + 2 → gs G1 ≤ gs G + 13 → ((List.range c).filter (fun x => decide (S 51 x = (m : Int))) = [] → gn G1 = gn G + 1 ∧ gs G1 = gs G + 3) → AL Z G1 a (((List.range c).filter (fun x => decide (S 51 x = (m : Int)))).map (callA G b S)) →
      TW Z mi_X2_cut (d + 12) 10 [some (tR (some e)), some (tI (m : Int)), some (tR (some a)), some (tI (k : Int)), o4] [] G1 Q := by
    intro r
    induction r with
    | zero =>
      intro k c G1 a o4 hk P ha pa md n1 s1 h0 A
      obtain ⟨R1, wl1, cA1⟩ := R.md md (fun _ _ _ _ h => h) (fun _ _ h => h)
      have pe := P.end V.1 (by omega)
      subst pe
      refine r_X2_cut_10 ⟨R1.k, by omega, by rw [R1.f46]; omega, fun _ => ?_, fun hn => by rw [R1.f46] at hn; omega⟩
      have cm : capM G1 (b + 2) = capM G (b + 2) := capM_mv (R.2.2.2.1.choose_spec.choose_spec.1) md id
      refine lift _ [] G1 a o4 rfl (E.md md (fun _ _ h => h)) ?_ (fun x => by rw [liftS_nil]; exact cA1 x) pa A
      rw [liftS_nil]
      exact ⟨⟨md.mono (fun _ _ h => h.elim), Rm.same cm n1 s1, R1⟩, fun x hx => by rw [wl1] at hx; exact hx⟩
    | succ r ih =>
      intro k c G1 a o4 hk P ha pa md n1 s1 h0 A
      obtain ⟨R1, wl1, cA1⟩ := R.md md (fun _ _ _ _ h => h) (fun _ _ h => h)
      have k12 := R1.1.2.2.2.2.2.1.1
      have kb1 := R1.1.2.2.2.2.2.2.2.1
      have lb1 := R1.1.2.2.2.2.2.2.2.2.1
      refine r_X2_cut_10 ⟨R1.k, by omega, by rw [R1.f46]; omega, fun hn => by rw [R1.f46] at hn; omega, fun _ v2 hv2 => ⟨b + 1, hv2.symm.trans k12, Or.inl kb1, by rw [lb1]; omega, fun v6 hv6 => ?_⟩⟩
      rw [Int.toNat_natCast, R1.at V.1 P (by omega)] at hv6
      by_cases hh : c < (S 0 47).toNat ∧ S 48 c = (k : Int)
      · have hv : aR G1 (b + 1) k = some (callA G b S c) := by rw [R1.at V.1 P (by omega), if_pos hh, cA1]
        rw [if_pos hh, cA1] at hv6
        obtain ⟨hc, h48⟩ := hh
        have C := R1.co hc
        rw [cA1] at C
        have rc := V.1.row hc
        have f110 : fI G1 110 (callA G b S c) = S 51 c := C.2.2.2.2.2.2.2.2.1
        refine ⟨fun hn => (by rw [← hv6] at hn; cases hn), fun a8 ha8 v10 hv10 => ⟨b + 1, hv10.symm.trans k12, Or.inl kb1, by rw [lb1]; omega, fun v14 hv14 => ⟨callA G b S c, ?_, C.1, by rw [f110]; have := rc.2.2.2.1; omega, by omega, fun he => fun v19 hv19 => ⟨b + 1, hv19.symm.trans k12, Or.inl kb1, by rw [lb1]; omega, fun v23 hv23 => ⟨a, rfl, A.1, ?_⟩⟩, fun hne => ?_⟩⟩⟩
        · rw [← hv14, Int.toNat_natCast]; exact hv
        · rw [f110] at he
          have ev : v23 = some (callA G b S c) := by rw [← hv23, Int.toNat_natCast]; exact hv
          subst ev
          have lc := mono (c + 1) (by omega)
          have sn := range_snoc c (fun x => decide (S 51 x = (m : Int)))
          rw [if_pos (decide_eq_true he)] at sn
          rw [sn, List.length_append, List.length_cons, List.length_nil] at lc
          refine jc_add (d := d + 6) A (by rw [List.length_map]; omega) (by rw [C.1]; exact ke9) C.2.2.1 (fun G2 m2 n2 s2 h2 A2 => r_X2_cut_55 ?_)
          have nn : gn G2 ≤ gn G + 2 ∧ gs G2 ≤ gs G + 13 := by
            by_cases hpe : (List.range c).filter (fun x => decide (S 51 x = (m : Int))) = []
            · have := h0 hpe; omega
            · have := h2 (fun h => hpe (List.map_eq_nil_iff.mp h)); omega
          have res := ih (k + 1) (c + 1) G2 a (some (tI 1)) (by omega) (P.hit V.1 hc h48) ha ((m2.p A.2.1).trans pa) (md.tmp m2 E.2.2.1 ha) nn.1 nn.2 (fun z => by rw [sn] at z; simp at z) (by rw [sn, List.map_append]; exact A2)
          exact res
        · rw [f110] at hne
          have sn := range_snoc c (fun x => decide (S 51 x = (m : Int)))
          rw [if_neg (by rw [decide_eq_false hne]; decide), List.append_nil] at sn
          exact ih (k + 1) (c + 1) G1 a o4 (by omega) (P.hit V.1 hc h48) ha pa md n1 s1 (by rw [sn]; exact h0) (by rw [sn]; exact A)
      · rw [if_neg hh] at hv6
        exact ⟨fun _ => ih (k + 1) c G1 a o4 (by omega) (P.miss V.1 hh) ha pa md n1 s1 h0 A, fun a8 ha8 => by rw [← hv6] at ha8; cases ha8⟩
  refine c_X2_cut (gn G) (jx_list (d := d + 8) E rfl (fun G1 md n1 s1 pa A => r_X2_cut_7 (find (S 0 46).toNat 0 0 G1 (gn G) none (by omega) (PtrI.zero V.1) (Nat.le_refl _) pa md (by omega) (by omega) (fun _ => ⟨n1, s1⟩) A)))
end CUT2
