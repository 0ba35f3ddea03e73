/-! THE JDK, 6: hash maps: a larger row, all bins -/
theorem iand_nat {c : Nat} (hc : c < 2 ^ 31) (z : Int) : iand z (c : Int) = (((Int32.ofInt z).toBitVec.toNat &&& c : Nat) : Int) := by
  unfold iand
  rw [← Int32.toInt_toBitVec, Int32.toBitVec_and]
  have hb : ((Int32.ofInt z).toBitVec &&& (Int32.ofInt (c : Int)).toBitVec).toNat = (Int32.ofInt z).toBitVec.toNat &&& c := by
    rw [BitVec.toNat_and]
    congr 1
    show (BitVec.ofInt 32 (c : Int)).toNat = c
    rw [BitVec.toNat_ofInt]
    omega
  have h2 : (Int32.ofInt z).toBitVec.toNat &&& c ≤ c := Nat.and_le_right
  rw [BitVec.toInt_eq_toNat_of_lt]
  · rw [hb]
  · rw [hb]; omega
theorem iand_comm (x y : Int) : iand x y = iand y x := by
  unfold iand
  rw [← Int32.toInt_toBitVec, ← Int32.toInt_toBitVec, Int32.toBitVec_and, Int32.toBitVec_and, BitVec.and_comm]
theorem bin_mod {c : Nat} (h : c = 16 ∨ c = 32 ∨ c = 64) (z : Int) : binOf c z = (Int32.ofInt z).toBitVec.toNat % c := by
  unfold binOf
  have e1 : ((c : Int) - 1) = ((c - 1 : Nat) : Int) := by omega
  rw [e1, iand_comm, iand_nat (by omega), Int.toNat_natCast]
  rcases h with rfl | rfl | rfl
  · exact Nat.and_two_pow_sub_one_eq_mod _ 4
  · exact Nat.and_two_pow_sub_one_eq_mod _ 5
  · exact Nat.and_two_pow_sub_one_eq_mod _ 6
theorem split_bit {cap : Nat} (h : cap = 16 ∨ cap = 32) (z : Int) : inR (iand z (cap : Int)) ∧ (iand z (cap : Int) = 0 → binOf (2 * cap) z = binOf cap z) ∧ (¬ iand z (cap : Int) = 0 → binOf (2 * cap) z = binOf cap z + cap) ∧ iand z (((2 * cap : Nat) : Int) - 1) = ((binOf (2 * cap) z : Nat) : Int) := by
  have hc : 2 * cap = 16 ∨ 2 * cap = 32 ∨ 2 * cap = 64 := by omega
  have hc' : cap = 16 ∨ cap = 32 ∨ cap = 64 := by omega
  have e4 : iand z (((2 * cap : Nat) : Int) - 1) = ((binOf (2 * cap) z : Nat) : Int) := by
    have ib := iand_cap hc z
    unfold binOf
    rw [iand_comm]
    omega
  have le : (Int32.ofInt z).toBitVec.toNat &&& cap ≤ cap := Nat.and_le_right
  refine ⟨by rw [iand_nat (by omega)]; constructor <;> omega, ?_, ?_, e4⟩
  all_goals
    rw [bin_mod hc, bin_mod hc', iand_nat (by omega)]
    generalize (Int32.ofInt z).toBitVec.toNat = w
    have e : ∀ k, w &&& 2 ^ k = 2 ^ k * (w / 2 ^ k % 2) := fun k => by
      have hd := Nat.testBit_eq_decide_div_mod_eq (x := w) (i := k)
      have h2 : w / 2 ^ k % 2 = 0 ∨ w / 2 ^ k % 2 = 1 := by omega
      apply Nat.eq_of_testBit_eq
      intro i
      rw [Nat.testBit_and, Nat.testBit_two_pow]
      rcases h2 with h2 | h2
      · rw [h2] at hd ⊢
        rw [Nat.mul_zero, Nat.zero_testBit]
        by_cases e : k = i
        · subst e; rw [hd]; rfl
        · simp [e]
      · rw [h2] at hd ⊢
        rw [Nat.mul_one, Nat.testBit_two_pow]
        by_cases e : k = i
        · subst e; rw [hd]; simp
        · simp [e]
    rcases h with rfl | rfl
    · have := e 4
      simp only [Nat.reducePow] at this
      rw [this]
      omega
    · have := e 5
      simp only [Nat.reducePow] at this
      rw [this]
      omega
def loB (A : GH) (cap : Nat) : Nat → Bool := fun a => decide (iand (fI A 143 a) (cap : Int) = 0)
/-- the bins before j are split -/
def RzJ (A G : GH) (t t2 cap : Nat) (bins : Nat → List Nat) (j : Nat) : Prop :=
  Md (fun c => c = t ∨ c = t2 ∨ ∃ i, i < cap ∧ c ∈ bins i) A G ∧ gn G = gn A ∧ gs G = gs A ∧ (∀ f c, fI G f c = fI A f c) ∧ (∀ f c, f ≠ 146 → fR G f c = fR A f c) ∧
    (∀ i, j ≤ i → i < cap → Chn G (aR G t i) (bins i) ∧ aR G t2 i = none ∧ aR G t2 (i + cap) = none) ∧
    ∀ i, i < j → Chn G (aR G t2 i) ((bins i).filter (loB A cap)) ∧ Chn G (aR G t2 (i + cap)) ((bins i).filter (fun a => !loB A cap a))
/-- one bin more -/
theorem RzJ.one {A G G1 G' : GH} {t t2 cap j : Nat} {bins : Nat → List Nat} (J : RzJ A G t t2 cap bins j) (hj : j < cap) (htt : t ≠ t2) (kt : gK A t = 109) (kt2 : gK A t2 = 109) (lt2 : t2 < gn A) (hdis : ∀ i, i < cap → i ≠ j → ∀ c ∈ bins i, c ∉ bins j) (hk : ∀ i, i < cap → ∀ c ∈ bins i, NodeK A c ∧ c < gn A)
    (ht : t < gn A) (e1 : G1 = G ∨ G1 = setQ G t j none) (F : RzF (bins j) t2 j (j + cap) G1 G') (c0 : Chn G' (aR G' t2 j) ((bins j).filter (loB A cap))) (c1 : Chn G' (aR G' t2 (j + cap)) ((bins j).filter (fun a => !loB A cap a))) : RzJ A G' t t2 cap bins (j + 1) := by
  obtain ⟨J1, J2, J3, J4, J5, J6, J7⟩ := J
  obtain ⟨F1, F2, F3, F4, F5, F6⟩ := F
  have nt : ∀ i, i < cap → t ∉ bins i := fun i hi h => by have := (hk i hi t h).1; unfold NodeK at this; omega
  have nt2 : ∀ i, i < cap → t2 ∉ bins i := fun i hi h => by have := (hk i hi t2 h).1; unfold NodeK at this; omega
  have g1 : gn G1 = gn G ∧ gs G1 = gs G ∧ (∀ f c, fI G1 f c = fI G f c) ∧ (∀ f c, fR G1 f c = fR G f c) ∧ (∀ i, i ≠ j → aR G1 t i = aR G t i) ∧ (∀ i, aR G1 t2 i = aR G t2 i) ∧ Md (fun c => c = t ∨ c = t2 ∨ ∃ i, i < cap ∧ c ∈ bins i) A G1 := by
    rcases e1 with rfl | rfl
    · exact ⟨rfl, rfl, fun _ _ => rfl, fun _ _ => rfl, fun _ _ => rfl, fun _ => rfl, J1⟩
    · exact ⟨rfl, rfl, fun _ _ => rfl, fun _ _ => rfl, fun i hi => hQ_ne (Or.inr hi), fun i => hQ_ne (Or.inl (fun e => htt e.symm)), J1.setQ (by omega) (fun _ => Or.inl rfl)⟩
  obtain ⟨u1, u2, u3, u4, u5, u6, u7⟩ := g1
  have old146 : ∀ i, i < cap → i ≠ j → ∀ c ∈ bins i, fR G' 146 c = fR G 146 c := fun i hi hne c hc => by
    have hcn := (hk i hi c hc).2
    have s := F1.sm (b := c) (by omega) (fun h' => by
      rcases h' with h' | h'
      · exact nt2 i hi (h' ▸ hc)
      · exact hdis i hi hne c hc h')
    exact ((s.2.2.2.1 146).2).trans (u4 146 c)
  have rt2 : ∀ i, i ≠ j → i ≠ j + cap → aR G' t2 i = aR G t2 i := fun i h1 h2 => (F6 i h1 h2).trans (u6 i)
  refine ⟨u7.trans' F1 (fun c _ h' => ?_), by omega, by omega, fun f c => (F4 f c).trans ((u3 f c).trans (J4 f c)), fun f c hf => (F5 f c hf).trans ((u4 f c).trans (J5 f c hf)), fun i hi hi' => ?_, fun i hi => ?_⟩
  · rcases h' with h' | h'
    · exact Or.inr (Or.inl h')
    · exact Or.inr (Or.inr ⟨j, hj, h'⟩)
  · obtain ⟨a1, a2, a3⟩ := J6 i (by omega) hi'
    refine ⟨?_, (rt2 i (by omega) (by omega)).trans a2, (rt2 (i + cap) (by omega) (by omega)).trans a3⟩
    have er : aR G' t i = aR G t i := by
      rcases e1 with e1 | e1
      · subst e1
        have s := F1.sm (b := t) (by omega) (fun h' => by
          rcases h' with h' | h'
          · exact htt h'
          · exact nt j hj h')
        exact (s.2.2.2.2 i).2
      · have s := F1.sm (b := t) (by omega) (fun h' => by
          rcases h' with h' | h'
          · exact htt h'
          · exact nt j hj h')
        exact ((s.2.2.2.2 i).2).trans (u5 i (by omega))
    rw [er]
    exact Chn.congr _ _ a1 (fun c hc => old146 i hi' (by omega) c hc)
  · by_cases e : i = j
    · subst e; exact ⟨c0, c1⟩
    · obtain ⟨a1, a2⟩ := J7 i (by omega)
      rw [rt2 i e (by omega), rt2 (i + cap) (by omega) (by omega)]
      exact ⟨Chn.congr _ _ a1 (fun c hc => old146 i (by omega) e c (List.mem_filter.mp hc).1), Chn.congr _ _ a2 (fun c hc => old146 i (by omega) e c (List.mem_filter.mp hc).1)⟩
section RZO
variable {Z : ZT} {d : Nat} {Q : TR → GH → Prop} {A : GH} {h t t2 cap : Nat} {bins : Nat → List Nat} {x3 x5 : Int}
theorem rz_out (hcap : cap = 16 ∨ cap = 32) (htt : t ≠ t2) (kt : gK A t = 109) (lt : gL A t = cap) (ht : t < gn A) (kt2 : gK A t2 = 109) (lt2 : gL A t2 = 2 * cap) (ht2 : t2 < gn A)
    (hb : ∀ i, i < cap → ∀ a ∈ bins i, NodeK A a ∧ a < gn A ∧ inR (fI A 143 a) ∧ binOf cap (fI A 143 a) = i) (hnd : ∀ i, i < cap → (bins i).Nodup)
    (q : ∀ G, RzJ A G t t2 cap bins cap → Q (.inl (some (tR (some t2)))) G) :
    ∀ (k j : Nat) (G : GH) (o8 o9 o10 o11 o12 o13 : Option Value), j + k = cap → RzJ A G t t2 cap bins j → TW Z mi_J1_resize (d + 1) 151 [some (tR (some h)), some (tR (some t)), some (tI (cap : Int)), some (tI x3), some (tI ((2 * cap : Nat) : Int)), some (tI x5), some (tR (some t2)), some (tI (j : Int)), o8, o9, o10, o11, o12, o13] [] G Q := by
  have hdis : ∀ j, j < cap → ∀ i, i < cap → i ≠ j → ∀ c ∈ bins i, c ∉ bins j := fun j hj i hi hne c hc h' => hne ((hb i hi c hc).2.2.2.symm.trans (hb j hj c h').2.2.2)
  have hk : ∀ i, i < cap → ∀ c ∈ bins i, NodeK A c ∧ c < gn A := fun i hi c hc => ⟨(hb i hi c hc).1, (hb i hi c hc).2.1⟩
  have nt : ∀ i, i < cap → t ∉ bins i := fun i hi h => by have := (hk i hi t h).1; unfold NodeK at this; omega
  have nt2 : ∀ i, i < cap → t2 ∉ bins i := fun i hi h => by have := (hk i hi t2 h).1; unfold NodeK at this; omega
  intro k
  induction k with
  | zero =>
    intro j G o8 o9 o10 o11 o12 o13 hj J
    have : j = cap := by omega
    subst this
    exact r_J1_resize_151 ⟨by omega, by omega, fun _ => q G J, fun hn => by omega⟩
  | succ k ih =>
    intro j G o8 o9 o10 o11 o12 o13 hj J
    have hjc : j < cap := by omega
    obtain ⟨J1, J2, J3, J4, J5, J6, J7⟩ := id J
    obtain ⟨c0, z1, z2⟩ := J6 j (Nat.le_refl _) hjc
    have kG : ∀ c, c < gn A → gK G c = gK A c := fun c hc => J1.k hc
    have nx : ∀ (G' : GH) (o9 o10 o11 o12 o13 : Option Value) (r8 : Option Nat), RzJ A G' t t2 cap bins (j + 1) → TW Z mi_J1_resize (d + 1) 347 [some (tR (some h)), some (tR (some t)), some (tI (cap : Int)), some (tI x3), some (tI ((2 * cap : Nat) : Int)), some (tI x5), some (tR (some t2)), some (tI (j : Int)), some (tR r8), o9, o10, o11, o12, o13] [] G' Q := fun G' o9 o10 o11 o12 o13 r8 J' => r_J1_resize_347 (by
      have := ih (j + 1) G' (some (tR r8)) o9 o10 o11 o12 o13 (by omega) J'
      rw [show (((j + 1 : Nat)) : Int) = (j : Int) + 1 by omega] at this
      exact this)
    have htG : t < gn G := by omega
    have ht2G : t2 < gn G := by omega
    refine r_J1_resize_151 ⟨by omega, by omega, fun hn => by omega, fun _ => ⟨t, rfl, Or.inl ((kG t ht).trans kt), by rw [J1.l ht, lt]; omega, fun v4 hv4 => ?_⟩⟩
    rw [Int.toNat_natCast] at hv4 ⊢
    cases hL : bins j with
    | nil =>
      rw [hL] at c0
      have c0 : aR G t j = none := c0
      refine ⟨fun _ => nx G _ _ _ _ _ _ (J.one (G1 := G) hjc htt kt kt2 ht2 (fun i hi hne => hdis j hjc i hi hne) hk ht (Or.inl rfl) ⟨Md.rf, rfl, rfl, fun _ _ => rfl, fun _ _ _ => rfl, fun _ _ _ => rfl⟩ (by rw [hL]; exact z1) (by rw [hL]; exact z2)), fun a6 ha6 => by rw [← hv4, c0] at ha6; cases ha6⟩
    | cons a l =>
      rw [hL] at c0
      refine ⟨fun hn => (by rw [← hv4, c0.1] at hn; cases hn), fun a6 ha6 => ?_⟩
      have ea : a6 = a := by rw [← hv4, c0.1] at ha6; cases ha6; rfl
      subst ea
      have ham : a6 ∈ bins j := by rw [hL]; exact List.mem_cons_self
      obtain ⟨b1, b2, b3, b4⟩ := hb j hjc a6 ham
      have nk : NodeK G a6 := by unfold NodeK; rw [kG a6 b2]; exact b1
      obtain ⟨f1, f2, f3, f4⟩ := nodeK_f nk
      obtain ⟨s1, s2, s3, s4⟩ := split_bit hcap (fI A 143 a6)
      have f143 : fI G 143 a6 = fI A 143 a6 := J4 143 a6
      have ib := iand_cap (cap := 2 * cap) (by omega) (fI A 143 a6)
      have hb2 : binOf (2 * cap) (fI A 143 a6) < 2 * cap := by unfold binOf; omega
      refine ⟨t, rfl, (kG t ht).trans kt, by rw [J1.l ht, lt]; omega, f4, fun v10 hv10 => ⟨fun hn => ⟨f1, t2, rfl, (kG t2 ht2).trans kt2, ?_, fun b hb' => by cases hb'; exact ke_nodeK nk, ?_⟩, fun a12 ha12 => ⟨nk, ?_⟩⟩⟩
      · rw [f143, s4, J1.l ht2, lt2]; omega
      · rw [f143, s4, Int.toNat_natCast]
        cases l with
        | cons b l => rw [← hv10, c0.2.1] at hn; cases hn
        | nil =>
          have c02 : fR G 146 a6 = none := c0.2
          have F0 : RzF (bins j) t2 j (j + cap) (setQ G t j none) (setQ G t j none) := ⟨Md.rf, rfl, rfl, fun _ _ => rfl, fun _ _ _ => rfl, fun _ _ _ => rfl⟩
          have q2 : ∀ i, aR (setQ G t j none) t2 i = aR G t2 i := fun i => hQ_ne (Or.inl (fun e => htt e.symm))
          by_cases hz : iand (fI A 143 a6) (cap : Int) = 0
          · rw [s2 hz, b4]
            have lt' : loB A cap a6 = true := decide_eq_true hz
            refine nx _ _ _ _ _ _ _ (J.one hjc htt kt kt2 ht2 (fun i hi hne => hdis j hjc i hi hne) hk ht (Or.inr rfl) (F0.row (Or.inl rfl) ht2G) ?_ ?_)
            · rw [hL, hQ_at]; simp only [List.filter_cons, lt', if_true, List.filter_nil]; exact ⟨rfl, c02⟩
            · rw [hL, hQ_ne (Or.inr (by omega)), q2]; simp only [List.filter_cons, lt', Bool.not_true, Bool.false_eq_true, if_false, List.filter_nil]; exact z2
          · rw [s3 hz, b4]
            have lt' : loB A cap a6 = false := decide_eq_false hz
            refine nx _ _ _ _ _ _ _ (J.one hjc htt kt kt2 ht2 (fun i hi hne => hdis j hjc i hi hne) hk ht (Or.inr rfl) (F0.row (Or.inr rfl) ht2G) ?_ ?_)
            · rw [hL, hQ_ne (Or.inr (by omega)), q2]; simp only [List.filter_cons, lt', Bool.false_eq_true, if_false, List.filter_nil]; exact z1
            · rw [hL, hQ_at]; simp only [List.filter_cons, lt', Bool.not_false, if_true, List.filter_nil]; exact ⟨rfl, c02⟩
      · have q2 : ∀ i, aR (setQ G t j none) t2 i = aR G t2 i := fun i => hQ_ne (Or.inl (fun e => htt e.symm))
        refine rz_in (h := h) (j := j) (lo := loB A cap) (A := setQ G t j none) (L := bins j) (hnd j hjc) (fun a ha => ?_) ((kG t2 ht2).trans kt2) ((J1.l ht2).trans lt2) ht2G hjc ((q2 j).trans z1) ((q2 (j + cap)).trans z2) (fun G' F d1 d2 o9 o10 o11 o12 o13 => nx G' _ _ _ _ _ _ (J.one hjc htt kt kt2 ht2 (fun i hi hne => hdis j hjc i hi hne) hk ht (Or.inr rfl) F d1 d2)) l [] a6 _ _ hL ⟨Md.rf, rfl, rfl, fun _ _ => rfl, fun _ _ _ => rfl, fun _ _ _ => rfl⟩ (fun _ => rfl) trivial trivial ⟨rfl, ?_⟩
        · obtain ⟨x1, x2, x3, x4⟩ := hb j hjc a ha
          have e : fI (setQ G t j none) 143 a = fI A 143 a := J4 143 a
          rw [e]
          refine ⟨?_, by show a < gn G; omega, (split_bit hcap _).1, ?_⟩
          · show gK G a = 19 ∨ gK G a = 20
            rw [kG a x2]; exact x1
          · unfold loB; simp
        · exact Chn.congr _ _ c0.2 (fun _ _ => rfl)
end RZO
theorem rz_ok {Z : ZT} {d h : Nat} : RzOK Z (d + 1) h := by
  intro G Q t cap n bins N H hcap h122 hn h124 hN hu hnd hz q
  obtain ⟨h1, h2, h3, h4, h5, h6, h7, h8, h9⟩ := id H
  obtain ⟨f1, f2, f3, f4, w1, w2, w3, w4⟩ := mapK_f h1
  have hc : cap = 16 ∨ cap = 32 := by omega
  have e1 : ishl (cap : Int) 1 = ((2 * cap : Nat) : Int) := by rcases hc with rfl | rfl <;> decide +kernel
  have e2 : ishl ((3 * cap / 4 : Nat) : Int) 1 = ((2 * (3 * cap / 4) : Nat) : Int) := by rcases hc with rfl | rfl <;> decide +kernel
  have ht : h ≠ t := fun e => by rw [e] at h1; omega
  refine c_J1_resize ⟨f1, fun v1 hv1 => ⟨fun hn' => (by rw [← hv1, h3] at hn'; cases hn'), fun a3 ha3 => ?_⟩⟩
  have et : a3 = t := by rw [← hv1, h3] at ha3; cases ha3; rfl
  subst et
  rw [h5, h124, e1, e2]
  refine ⟨Or.inl h4, f4, by omega, fun hh => by omega, fun _ => ⟨fun _ => ⟨by omega, fun hh => by omega, fun _ => ⟨fun hh => by omega, fun _ => ?_⟩⟩, fun hh => by omega⟩⟩
  refine r_J1_resize_85 h ⟨by omega, fun _ => ⟨w4, by omega, ?_, fun hh => (by cases hh), fun a2 ha2 => ?_⟩, fun hh => by omega⟩
  · show kwb (gK (newG (setI G 124 h ((2 * (3 * cap / 4) : Nat) : Int)) 109 ((2 * cap : Nat) : Int).toNat h ((2 * cap : Nat) : Int).toNat) h) 120 = true
    rw [gK_old (by show h ≠ gn G; omega)]
    exact w1
  cases ha2
  rw [Int.toNat_natCast]
  have mA : Md (fun c => c = h) G (setR (newG (setI G 124 h ((2 * (3 * cap / 4) : Nat) : Int)) 109 (2 * cap) h (2 * cap)) 120 h (some (gn G))) := ((Md.setI (P := fun c => c = h) Md.rf h2 (fun _ => rfl)).new (Nat.le_of_lt h2)).setR (by show h < gn G + 1; omega) (fun _ => rfl)
  have aI' : ∀ f c, f ≠ 124 → fI (setR (newG (setI G 124 h ((2 * (3 * cap / 4) : Nat) : Int)) 109 (2 * cap) h (2 * cap)) 120 h (some (gn G))) f c = fI G f c := fun f c hf => hI_ne (Or.inl hf)
  have aR' : ∀ f c, f ≠ 120 → fR (setR (newG (setI G 124 h ((2 * (3 * cap / 4) : Nat) : Int)) 109 (2 * cap) h (2 * cap)) 120 h (some (gn G))) f c = fR G f c := fun f c hf => hR_ne (Or.inl hf)
  have a124 : fI (setR (newG (setI G 124 h ((2 * (3 * cap / 4) : Nat) : Int)) 109 (2 * cap) h (2 * cap)) 120 h (some (gn G))) 124 h = ((2 * (3 * cap / 4) : Nat) : Int) := hI_at
  have a120 : fR (setR (newG (setI G 124 h ((2 * (3 * cap / 4) : Nat) : Int)) 109 (2 * cap) h (2 * cap)) 120 h (some (gn G))) 120 h = some (gn G) := hR_at
  have aQ : ∀ c i, aR (setR (newG (setI G 124 h ((2 * (3 * cap / 4) : Nat) : Int)) 109 (2 * cap) h (2 * cap)) 120 h (some (gn G))) c i = aR G c i := fun _ _ => rfl
  have aK : gK (setR (newG (setI G 124 h ((2 * (3 * cap / 4) : Nat) : Int)) 109 (2 * cap) h (2 * cap)) 120 h (some (gn G))) (gn G) = 109 := gK_new (G := setI G 124 h ((2 * (3 * cap / 4) : Nat) : Int)) (N := 2 * cap)
  have aL : gL (setR (newG (setI G 124 h ((2 * (3 * cap / 4) : Nat) : Int)) 109 (2 * cap) h (2 * cap)) 120 h (some (gn G))) (gn G) = 2 * cap := gL_new (G := setI G 124 h ((2 * (3 * cap / 4) : Nat) : Int)) (N := 2 * cap)
  have aP : gP (setR (newG (setI G 124 h ((2 * (3 * cap / 4) : Nat) : Int)) 109 (2 * cap) h (2 * cap)) 120 h (some (gn G))) (gn G) = h := gP_new (G := setI G 124 h ((2 * (3 * cap / 4) : Nat) : Int)) (N := 2 * cap)
  have an : gn (setR (newG (setI G 124 h ((2 * (3 * cap / 4) : Nat) : Int)) 109 (2 * cap) h (2 * cap)) 120 h (some (gn G))) = gn G + 1 := rfl
  have as : gs (setR (newG (setI G 124 h ((2 * (3 * cap / 4) : Nat) : Int)) 109 (2 * cap) h (2 * cap)) 120 h (some (gn G))) = gs G + 2 * cap := rfl
  generalize setR (newG (setI G 124 h ((2 * (3 * cap / 4) : Nat) : Int)) 109 (2 * cap) h (2 * cap)) 120 h (some (gn G)) = A at *
  have z := hz (gn G) (Nat.le_refl _)
  have hbA : ∀ i, i < cap → ∀ a ∈ bins i, NodeK A a ∧ a < gn A ∧ inR (fI A 143 a) ∧ binOf cap (fI A 143 a) = i := fun i hi a ha => by
    obtain ⟨n1, n2, n3, n4, n5⟩ := (h9 i hi).2 a ha
    exact ⟨by unfold NodeK; rw [mA.k n3]; exact n1, by omega, by rw [aI' 143 a (by decide)]; exact n4, by rw [aI' 143 a (by decide)]; exact n5⟩
  refine rz_out (A := A) (t := a3) (t2 := gn G) (bins := bins) hc (by omega) ((mA.k h7).trans h4) ((mA.l h7).trans h5) (by omega) aK aL (by omega) hbA hnd (fun G' J => ?_) cap 0 A _ _ _ _ _ _ (by omega) ⟨Md.rf, rfl, rfl, fun _ _ => rfl, fun _ _ _ => rfl, fun i _ hi => ⟨?_, (aQ _ _).trans (z.2.2 i).2, (aQ _ _).trans (z.2.2 _).2⟩, fun i hi => absurd hi (Nat.not_lt_zero i)⟩
  · obtain ⟨J1, J2, J3, J4, J5, J6, J7⟩ := J
    have mm : Md (Ow G h) G G' := (mA.mono (P' := Ow G h) (fun c _ e => Or.inl e)).trans' J1 (fun c hc' e => by
      rcases e with e | e | ⟨i, hi, e⟩
      · exact Or.inr (e ▸ h6)
      · omega
      · exact Or.inr ((h9 i hi).2 c e).2.1)
    have hne : h ≠ a3 ∧ h ≠ gn G := ⟨ht, by omega⟩
    have G143 : ∀ c, fI G' 143 c = fI G 143 c := fun c => (J4 143 c).trans (aI' 143 c (by decide))
    have nodeOf : ∀ i, i < cap → ∀ c ∈ bins i, NodeK G' c ∧ gP G' c = h ∧ c < gn G' ∧ inR (fI G' 143 c) ∧ binOf cap (fI G' 143 c) = i := fun i hi c hc' => by
      obtain ⟨n1, n2, n3, n4, n5⟩ := (h9 i hi).2 c hc'
      exact ⟨by unfold NodeK; rw [mm.k n3]; exact n1, (mm.p n3).trans n2, by omega, by rw [G143]; exact n4, by rw [G143]; exact n5⟩
    have bits : ∀ i, i < cap → ∀ c ∈ bins i, (loB A cap c = true → binOf (2 * cap) (fI G' 143 c) = i) ∧ ((!loB A cap c) = true → binOf (2 * cap) (fI G' 143 c) = i + cap) := fun i hi c hc' => by
      obtain ⟨n1, n2, n3, n4, n5⟩ := nodeOf i hi c hc'
      obtain ⟨s1, s2, s3, s4⟩ := split_bit hc (fI G' 143 c)
      have e : loB A cap c = decide (iand (fI G' 143 c) (cap : Int) = 0) := by unfold loB; rw [G143, aI' 143 c (by decide)]
      rw [e]
      constructor
      · intro h'; rw [s2 (of_decide_eq_true h'), n5]
      · intro h'
        have : ¬ iand (fI G' 143 c) (cap : Int) = 0 := by simpa using h'
        rw [s3 this, n5]
    have hHM : HM G' h (gn G) (2 * cap) (fun i => if i < cap then (bins i).filter (loB A cap) else (bins (i - cap)).filter (fun a => !loB A cap a)) := by
      refine ⟨by rw [mm.k h2]; exact h1, by omega, (J5 120 h (by decide)).trans a120, (J1.k (by omega)).trans aK, (J1.l (by omega)).trans aL, (J1.p (by omega)).trans aP, by omega, by omega, fun i hi => ?_⟩
      dsimp only
      by_cases e : i < cap
      · rw [if_pos e]
        refine ⟨(J7 i e).1, fun a ha => ?_⟩
        obtain ⟨m1, m2⟩ := List.mem_filter.mp ha
        obtain ⟨n1, n2, n3, n4, n5⟩ := nodeOf i e a m1
        exact ⟨n1, n2, n3, n4, (bits i e a m1).1 m2⟩
      · rw [if_neg e]
        have ei : i - cap < cap := by omega
        have ee : i - cap + cap = i := by omega
        refine ⟨?_, fun a ha => ?_⟩
        · have := (J7 (i - cap) ei).2
          rw [ee] at this
          exact this
        · obtain ⟨m1, m2⟩ := List.mem_filter.mp ha
          obtain ⟨n1, n2, n3, n4, n5⟩ := nodeOf _ ei a m1
          exact ⟨n1, n2, n3, n4, by rw [(bits _ ei a m1).2 m2]; exact ee⟩
    refine q G' _ mm (by omega) (by omega) hHM.cap ⟨by rw [mm.k h2]; exact h1, by omega, (J4 122 h).trans ((aI' 122 h (by decide)).trans h122), Or.inr ⟨gn G, 2 * cap, _, hHM, (J4 124 h).trans (by rw [a124]; congr 1; rcases hc with rfl | rfl <;> rfl), by omega, fun a => ?_, fun a b ha hb e => hu a b ha hb (by rw [← G143, ← G143]; exact e), fun i hi => ?_⟩⟩ (fun a _ => ⟨G143 a, (J5 144 a (by decide)).trans (aR' 144 a (by decide)), (J5 145 a (by decide)).trans (aR' 145 a (by decide))⟩) (fun L h14 => ?_)
    · rw [hN a]
      constructor
      · rintro ⟨i, hi, hm⟩
        cases hl : loB A cap a with
        | true => exact ⟨i, by omega, by rw [if_pos hi]; exact List.mem_filter.mpr ⟨hm, hl⟩⟩
        | false => exact ⟨i + cap, by omega, by rw [if_neg (by omega), Nat.add_sub_cancel]; exact List.mem_filter.mpr ⟨hm, by rw [hl]; rfl⟩⟩
      · rintro ⟨i, hi, hm⟩
        by_cases e : i < cap
        · rw [if_pos e] at hm; exact ⟨i, e, (List.mem_filter.mp hm).1⟩
        · rw [if_neg e] at hm; exact ⟨i - cap, by omega, (List.mem_filter.mp hm).1⟩
    · show (if i < cap then _ else _ : List Nat).Nodup
      split
      · exact (hnd i (by omega)).filter _
      · exact (hnd (i - cap) (by omega)).filter _
    · obtain ⟨l1, l2, l3⟩ := L (by rw [← mm.k h2]; exact h14)
      refine ⟨(J4 129 h).trans ((aI' 129 h (by decide)).trans l1), (J4 130 h).trans ((aI' 130 h (by decide)).trans l2), fun a ha => ?_⟩
      obtain ⟨y1, y2, y3⟩ := l3 a (by rw [← aR' 128 h (by decide), ← J5 128 h (by decide)]; exact ha)
      exact ⟨(mm.k y3).trans y1, (mm.p y3).trans y2, by omega⟩
  · rw [aQ]
    exact Chn.congr _ _ (h9 i hi).1 (fun c _ => aR' 146 c (by decide))
