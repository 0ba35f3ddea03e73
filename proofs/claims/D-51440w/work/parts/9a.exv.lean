/-! THE EXCHANGE, 30: joining a group; copying -/
section JOIN
variable {Z : ZT} {d : Nat} {G : GH} {Q : TR → GH → Prop} {e b : Nat} {S S' T T' : St}
theorem ke4 : KE 4 "java/lang/Object" := ⟨3, _, Or.inl rfl, rfl, Or.inr q3534⟩
/-- lists of integers without doubles -/
theorem nodup_int {l : List Int} {j : Nat} {f : Nat → Int} (nd : l.Nodup) (h : ∀ c ∈ l, ∃ g : Nat, g < j ∧ c = f g) : l.length ≤ j := by
  have hr : ∀ c ∈ l, ∃ g : Nat, g < j ∧ c = f g := h
  have key : ∀ (l : List Int), l.Nodup → (∀ c ∈ l, ∃ g : Nat, g < j ∧ c = f g) → ∃ m : List Nat, m.Nodup ∧ m.length = l.length ∧ (∀ g ∈ m, g < j) ∧ ∀ g ∈ m, f g ∈ l := by
    intro l
    induction l with
    | nil => intro _ _; exact ⟨[], List.nodup_nil, rfl, fun _ h => (by cases h), fun _ h => (by cases h)⟩
    | cons c l ih =>
      intro nd h
      obtain ⟨n1, n2⟩ := List.nodup_cons.mp nd
      obtain ⟨m, m1, m2, m3, m4⟩ := ih n2 (fun x hx => h x (List.mem_cons_of_mem _ hx))
      obtain ⟨g, g1, g2⟩ := h c List.mem_cons_self
      refine ⟨g :: m, List.nodup_cons.mpr ⟨fun hg => n1 (by rw [g2]; exact m4 g hg), m1⟩, by rw [List.length_cons, List.length_cons, m2], fun x hx => ?_, fun x hx => ?_⟩
      · rcases List.mem_cons.mp hx with hx | hx
        · rw [hx]; exact g1
        · exact m3 x hx
      · rcases List.mem_cons.mp hx with hx | hx
        · rw [hx, ← g2]; exact List.mem_cons_self
        · exact List.mem_cons_of_mem _ (m4 x hx)
  obtain ⟨m, m1, m2, m3, -⟩ := key l nd h
  rw [← m2]
  exact nodup_le j m m1 m3
/-- a group joins -/
theorem xc_join {a : Nat} (R : Rep Z G e b S S) (E : EnvE Z G) (h60 : 0 ≤ S 0 60 ∧ S 0 60 < 4) (GO : GroupO Z G a S (S 0 60).toNat) (hd : ∀ g : Nat, g < (S 0 60).toNat → gword S g ≠ gword S (S 0 60).toNat)
    (q : ∀ G', OpR Z e b 5 144 G G' (up2 S 0 60 (S 0 60 + 1)) → WL G' b = WL G b → Q (.inl none) G') : TC Z (d + 6) mi_X2_join [tR (some e), tR (some a)] G Q := by
  have k16 := R.1.2.2.2.2.2.1.2.2.2.2.1
  have k17 := R.1.2.2.2.2.2.1.2.2.2.2.2.1
  have k5 := R.1.2.2.2.2.2.2.2.2.2.2.2.2.1
  have p5 : gP G (b + 5) = e := R.1.2.2.2.2.2.2.1 5 (by decide) (by decide)
  have p6 : gP G (b + 6) = e := R.1.2.2.2.2.2.2.1 6 (by decide) (by decide)
  have le := R.1.2.2.1
  obtain ⟨n, f, M, hn, hf, hx⟩ := R.tail.2.1
  obtain ⟨gl, g1, g2, g3⟩ := R.tail.2.2.1
  obtain ⟨y1, y2, y3, s, l, ml, y4, y5, y6, y7, y8, y9, y10, y11, y12⟩ := id GO
  have wd : ∀ g : Nat, g < (S 0 60).toNat → Wd (gword S g) := fun g hg => by
    obtain ⟨-, -, -, s', l', ml', -, -, -, z, -⟩ := g3 g (by omega)
    exact z
  have ky : KyW G s (spreadI (hashI (gword S (S 0 60).toNat))) := ⟨_, y7, y5, y6, rfl⟩
  have hnone : f (spreadI (hashI (gword S (S 0 60).toNat))) = none := by
    cases h : f (spreadI (hashI (gword S (S 0 60).toNat))) with
    | none => rfl
    | some v =>
      obtain ⟨g, z1, z2⟩ := hx _ (by rw [h]; exact fun z => by cases z)
      exact absurd (word_inj y7 (wd g z1) z2).symm (hd g z1)
  obtain ⟨a1, a2, a3, a4, a5⟩ := R.1.own_no (j := 5) (by decide)
  obtain ⟨b1, b2, b3, b4, b5⟩ := R.1.own_no (j := 6) (by decide)
  have fp5 : FP G (Ow G (b + 5)) := R.1.fp.mono a5
  have l5 : b + 5 < gn G := (R.1.part 5 (by decide) (by decide)).2
  refine c_X2_join ⟨R.k, fun v1 hv1 => ⟨a, rfl, y1, fun v5 hv5 v7 hv7 => ⟨b + 6, hv7.symm.trans k17, g1.1, jc_size (d := d + 4) g1 (r_X2_join_17 (jc_valueOf (d := d + 4) E.2.1 (by omega) (fun iv hiv => r_X2_join_20 ⟨b + 5, hv1.symm.trans k16, k5, ?_⟩)))⟩⟩⟩
  rw [g2] at hiv
  have ev : v5 = some s := hv5.symm.trans y4
  subst ev
  refine jv_put (d := d) M (ky_word ky) (by omega) hnone (fun lc nd h => ?_) E.2.2.2 (fun A mA rr => ?_) (fun A B mA mB hk k' c' hk' => ?_) (fun A B mA rr mB rm MB => r_X2_join_23 ⟨fun b' hb' => (by cases hb'), ?_, fun v1' hv1' => ⟨b + 6, ?_, ?_, ?_⟩⟩)
  · have := nodup_int (j := (S 0 60).toNat) (f := fun g => spreadI (hashI (gword S g))) nd (fun c hc => hx c (h c hc).1)
    omega
  · subst rr
    exact ⟨ky, fun _ _ h => h⟩
  · refine hk'.md mB (fun c hf hc => ?_)
    obtain ⟨f1, f2, f3⟩ := hf
    have q5 : gP A (b + 5) = e := (mA.p l5).trans p5
    have qe : gP A e = gP G e := mA.p R.1.2.1
    obtain ⟨s1, s2, s3⟩ := R.1.2.2.2.2.1
    rcases hc with hc | hc
    · rw [hc, q5, qe] at f3
      rw [f3] at s2
      have := R.1.1
      omega
    · rw [hc, q5] at f3
      omega
  · subst rr
    rw [mB.k R.1.2.1]; exact R.k
  · subst rr
    have sf := mB.sm R.1.2.1 a1
    rw [← hv1', (sf.2.2.2.1 17).2]; exact k17
  · subst rr
    have g1' : AL Z B (b + 6) gl := g1.md mB (fun c hc hh => a3 6 (by decide) (by decide) (by decide) c hc (hh.elim Or.inl (fun z => Or.inr z.1)))
    exact g1'.1
  subst rr
  have g1' : AL Z B (b + 6) gl := g1.md mB (fun c hc hh => a3 6 (by decide) (by decide) (by decide) c hc (hh.elim Or.inl (fun z => Or.inr z.1)))
  have GO' := GO.md mB fp5
  refine jc_add (d := d) g1' (by omega) (by rw [GO'.1]; exact ke4) GO'.2.2.1 (fun H m2 n2 s2 _ A2 => r_X2_join_37 ?_)
  -- all that may have changed
  have m : Md (fun c => Ow A (b + 5) c ∨ Ow A (b + 6) c) A H := (mB.mono (P' := fun c => Ow A (b + 5) c ∨ Ow A (b + 6) c) (fun c _ h => Or.inl h)).trans' m2 (fun c hc ho => Or.inr (by unfold Ow at ho ⊢; rw [mB.p hc] at ho; exact ho))
  have no : ∀ c, (¬ Ow A (b + 5) c ∧ ¬ Ow A (b + 6) c) → ¬ (Ow A (b + 5) c ∨ Ow A (b + 6) c) := fun c h z => z.elim h.1 h.2
  have fp : FP A (fun c => Ow A (b + 5) c ∨ Ow A (b + 6) c) := R.1.fp.mono (fun c hc h => h.elim (a5 c hc) (b5 c hc))
  have rg : ∀ c, c < gn A → (Ow A (b + 5) c ∨ Ow A (b + 6) c) → RegE A e b c := fun c hc h => h.elim (a5 c hc) (b5 c hc)
  have se := m.sm R.1.2.1 (no _ ⟨a1, b1⟩)
  have own : ∀ j, j = 2 ∨ j = 4 ∨ j = 7 → ∀ c, c < gn A → Ow A (b + j) c → ¬ (Ow A (b + 5) c ∨ Ow A (b + 6) c) := fun j hj c hc ho => no c ⟨a3 j (by omega) (by omega) (by omega) c hc ho, b3 j (by omega) (by omega) (by omega) c hc ho⟩
  have part : ∀ j, 1 ≤ j → j ≤ 10 → j ≠ 5 → j ≠ 6 → ¬ (Ow A (b + 5) (b + j) ∨ Ow A (b + 6) (b + j)) := fun j j1 j2 j3 j4 => no _ ⟨a2 j j1 j2 j3, b2 j j1 j2 j4⟩
  have h0 : ∀ k, k ≠ 60 → up2 S 0 60 (S 0 60 + 1) 0 k = S 0 k := fun k hk => up2_ne (Or.inr hk)
  have hr : ∀ f, f ≠ 0 → up2 S 0 60 (S 0 60 + 1) f = S f := fun f hf => funext fun x => up2_ne (Or.inl hf)
  have e60 : up2 S 0 60 (S 0 60 + 1) 0 60 = S 0 60 + 1 := up2_at
  have wl : WL H b = WL A b := WL.md1 R.tail.2.2.2 m (own 7 (by decide))
  have hBm : ∀ c, c < gn B → Ow B (b + 5) c → ¬ Ow B (b + 6) c := fun c hc ho hp => by
    have q5 : gP B (b + 5) = e := (mB.p l5).trans p5
    have q6 : gP B (b + 6) = e := (mB.p (R.1.part 6 (by decide) (by decide)).2).trans p6
    rcases ho with ho | ho <;> rcases hp with hp | hp
    · omega
    · rw [ho, q5] at hp; omega
    · rw [hp, q6] at ho; omega
    · omega
  have shB := R.1.md1 mB (fun f => ((mB.sm R.1.2.1 a1).2.2.2.1 f).2)
  have fpB : FP B (Ow B (b + 6)) := shB.fp.mono (fun c hc ho => shB.reg hc (Or.inr (Or.inr (Or.inr ⟨6, Or.inr (by decide), by decide, ho⟩))))
  have MH : MapV KyW H (b + 5) (n + 1) (updM f (spreadI (hashI (gword S (S 0 60).toNat))) (some iv)) := MB.md m2 hBm (fun k' c' hk' => hk'.md m2 fpB)
  refine q H ⟨⟨m.mono rg, ?_, ⟨R.1.md1 m (fun f => (se.2.2.2.1 f).2), (R.2.1.md1 R.1 m (no _ ⟨a1, b1⟩) (part 8 (by decide) (by decide) (by decide) (by decide))).eq (fun k _ h2 _ => h0 k (by omega)) (hr 65 (by decide)), (R.2.2.1.md1 R.1 m (part 1 (by decide) (by decide) (by decide) (by decide)) (part 10 (by decide) (by decide) (by decide) (by decide)) (fun c hc => no _ ⟨a4 _ (R.co hc).2.1 (R.co hc).1, b4 _ (R.co hc).2.1 (R.co hc).1⟩)).eq (fun k hk => h0 k (by omega)) (fun f h1 h2 => hr f (by omega)), ?_, ?_, ?_, ?_, ?_⟩⟩, fun x hx => by rw [wl] at hx; exact hx⟩ wl
  · have cm : capM H (b + 2) = capM A (b + 2) := capM_mv (R.2.2.2.1.choose_spec.choose_spec.1) m (part 2 (by decide) (by decide) (by decide) (by decide))
    have l0 := lvM_le (capM A (b + 5))
    exact Rm.same cm (by unfold Rm at rm; omega) (by unfold Rm at rm; omega)
  · exact (R.2.2.2.1.md1 R.1 m (part 1 (by decide) (by decide) (by decide) (by decide)) (own 2 (by decide)) fp).eq (hr 48 (by decide)) (h0 47 (by decide)) (hr 51 (by decide)) (h0 39 (by decide)) (h0 47 (by decide)) (hr 49 (by decide)) (hr 50 (by decide))
  · exact (R.tail.1.md1 m (part 3 (by decide) (by decide) (by decide) (by decide)) (own 4 (by decide)) fp).eq (h0 40 (by decide)) (h0 41 (by decide))
  · have ew := fun g => gword_eq (S := S) (S' := up2 S 0 60 (S 0 60 + 1)) (hr 61 (by decide)) (hr 62 (by decide)) g
    refine ⟨n + 1, _, MH, by rw [e60]; omega, fun g hg => ?_, fun c hc => ?_⟩
    · rw [e60] at hg
      rw [ew]
      by_cases hgj : g = (S 0 60).toNat
      · rw [hgj, updM_at]
        refine ⟨iv, rfl, ?_⟩
        rw [show (((S 0 60).toNat : Nat) : Int) = ((S 0 60).toNat : Int) from rfl]
        exact hiv.md m fp
      · rw [updM_ne (fun z => hd g (by omega) (word_inj (wd g (by omega)) y7 z))]
        obtain ⟨v, v1, v2⟩ := hf g (by omega)
        exact ⟨v, v1, v2.md m fp⟩
    · by_cases hcc : c = spreadI (hashI (gword S (S 0 60).toNat))
      · exact ⟨(S 0 60).toNat, by rw [e60]; omega, by rw [ew]; exact hcc⟩
      · rw [updM_ne hcc] at hc
        obtain ⟨g, z1, z2⟩ := hx c hc
        exact ⟨g, by rw [e60]; omega, by rw [ew]; exact z2⟩
  · refine ⟨gl ++ [a], A2, by rw [List.length_append, List.length_cons, List.length_nil, e60]; omega, fun g hg => ?_⟩
    rw [List.length_append, List.length_cons, List.length_nil] at hg
    have base : ∀ {x gg : Nat}, GroupO Z A x S gg → GroupO Z H x (up2 S 0 60 (S 0 60 + 1)) gg := fun h => (h.md m fp).eq (hr 61 (by decide)) (hr 62 (by decide)) (hr 63 (by decide)) (hr 64 (by decide))
    rw [getD_app]
    by_cases hgl : g < gl.length
    · rw [if_pos hgl]; exact base (g3 g hgl)
    · rw [if_neg hgl, if_pos (by omega)]
      have : g = (S 0 60).toNat := by omega
      rw [this]
      exact base GO
  · exact (R.tail.2.2.2.md1 m (own 7 (by decide)) fp).eq (h0 55 (by decide)) (fun f h1 h2 => hr f (by omega))
end JOIN
