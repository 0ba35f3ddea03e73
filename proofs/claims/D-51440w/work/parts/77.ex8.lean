/-! THE EXCHANGE, 8: laying a call -/
section LAY
variable {Z : ZT} {d : Nat} {G : GH} {Q : TR → GH → Prop} {e b : Nat} {S T : St}
theorem bin_small : ∀ n : Nat, n < 160 → binOf 16 (n : Int) = n % 16 := by decide +kernel
theorem bin_spc {m i t : Nat} (hm : m ≤ 8) (hi : i ≤ 5) (ht : t ≤ 1) : binOf 16 (spc m i t) = 2 * i + t := by
  unfold spc
  rw [bin_small _ (by omega)]
  omega
/-- keys of a map of spots -/
theorem spot_key {n : Nat} {f : Int → Option Nat} {h : Nat} (M : MapV KS G h n f) {x : Int} (hx : f x ≠ none) : ∃ m i t, m ≤ 8 ∧ i ≤ 5 ∧ t ≤ 1 ∧ x = spc m i t := by
  obtain ⟨N, M1, M2, M3, M4⟩ := M
  obtain ⟨a, a1, a2⟩ := M4 x hx
  obtain ⟨k, k1, ⟨-, m, i, t, k2, k3⟩, -⟩ := M3 a a1
  exact ⟨m, i, t, k2.2.2.1, k2.2.2.2.1, k2.2.2.2.2.1, a2.symm.trans k3⟩
/-- at most six keys of a bin -/
theorem carr_bin {n : Nat} {f : Int → Option Nat} {A : Nat → Nat} (M : MapV KS G (b + 2) n f) (W : RwS S) (SR : SameR S T)
    (hf : ∀ (m i : Nat) (t : Bool), m ≤ 8 → i ≤ 5 → f (spc m i t.toNat) = if carriedAt T (m : Int) (i : Int) t = -1 then none else some (A (carriedAt T (m : Int) (i : Int) t).toNat)) {m i : Nat} {t : Bool} (hm : m ≤ 8) (hi : i ≤ 5)
    (l : List Int) (nd : l.Nodup) (h : ∀ c ∈ l, f c ≠ none ∧ binOf 16 c = binOf 16 (spc m i t.toNat)) : l.length ≤ 6 := by
  have tb : t.toNat ≤ 1 := by cases t <;> decide
  have key : ∀ c ∈ l, ∃ m', m' ≤ 8 ∧ c = spc m' i t.toNat ∧ carriedAt T (m' : Int) (i : Int) t ≠ -1 := fun c hc => by
    obtain ⟨h1, h2⟩ := h c hc
    obtain ⟨m', i', t', a1, a2, a3, a4⟩ := spot_key M h1
    rw [a4, bin_spc a1 a2 a3, bin_spc hm hi tb] at h2
    have e1 : i' = i := by omega
    have e2 : t' = t.toNat := by omega
    subst e1 e2
    refine ⟨m', a1, a4, fun z => ?_⟩
    rw [a4, hf m' i' t a1 a2, if_pos z] at h1
    exact h1 rfl
  have row : ∀ c ∈ l, ∀ m' : Nat, c = spc m' i t.toNat → carriedAt T (m' : Int) (i : Int) t ≠ -1 → ∃ x : Nat, carriedAt T (m' : Int) (i : Int) t = (x : Int) ∧ x < (S 0 47).toNat ∧ T 51 x = (m' : Int) ∧ endS S x t = (i : Int) := fun c _ m' _ hn => by
    have rg := fnd_rng (p := fun c => decide (T 51 c = (m' : Int) ∧ endS T c t = (i : Int))) (T 0 47).toNat 0
    have hx : carriedAt T (m' : Int) (i : Int) t = (((carriedAt T (m' : Int) (i : Int) t).toNat : Nat) : Int) := by unfold carriedAt at hn ⊢; omega
    have s := carriedAt_some hx
    obtain ⟨e39, e47, ee⟩ := SR.eq
    exact ⟨_, hx, by rw [← e47]; exact s.1, s.2.1, by rw [← ee]; exact s.2.2⟩
  have r := W.2.2.2 (i : Int) t (l.map (fun c => (carriedAt T ((c - ((2 * i + t.toNat : Nat) : Int)) / 16) (i : Int) t).toNat)) ?_ ?_
  · rw [List.length_map] at r; exact r
  · refine List.pairwise_map.mpr (List.Pairwise.imp_of_mem (fun {x y} hx hy hxy e' => hxy ?_) nd)
    obtain ⟨m1, a1, a2, a3⟩ := key x hx
    obtain ⟨m2, b1, b2, b3⟩ := key y hy
    obtain ⟨x1, c1, c2, c3, c4⟩ := row x hx m1 a2 a3
    obtain ⟨x2, d1, d2, d3, d4⟩ := row y hy m2 b2 b3
    have q1 : (x - ((2 * i + t.toNat : Nat) : Int)) / 16 = (m1 : Int) := by rw [a2]; unfold spc; omega
    have q2 : (y - ((2 * i + t.toNat : Nat) : Int)) / 16 = (m2 : Int) := by rw [b2]; unfold spc; omega
    rw [q1, q2, c1, d1, Int.toNat_natCast, Int.toNat_natCast] at e'
    subst e'
    have : m1 = m2 := by omega
    rw [a2, b2, this]
  · intro z hz
    obtain ⟨x, hx, rfl⟩ := List.mem_map.mp hz
    obtain ⟨m1, a1, a2, a3⟩ := key x hx
    obtain ⟨x1, c1, c2, c3, c4⟩ := row x hx m1 a2 a3
    have q1 : (x - ((2 * i + t.toNat : Nat) : Int)) / 16 = (m1 : Int) := by rw [a2]; unfold spc; omega
    rw [q1, c1, Int.toNat_natCast]
    exact ⟨c2, c4⟩
/-- a call is laid on a middle -/
theorem jx_lay {a m nf nt n : Nat} {f : Int → Option Nat} {x y : Int} (sh : ShE G e b) (W : RwS S) (h39 : fI G 10 e = S 0 39) (ka : gK G a = 9) (pa : gP G a = e) (ha : a < gn G) (hz : Fz G) (hm : m ≤ 8)
    (hx : fI G 106 a = x ∧ inR x ∧ x.tdiv (S 0 39) = (nf : Int) ∧ nf ≤ 5) (hy : fI G 107 a = y ∧ inR y ∧ y.tdiv (S 0 39) = (nt : Int) ∧ nt ≤ 5) (M : MapV KS G (b + 2) n f) (hn : n ≤ 44) (f1 : f (spc m nf false.toNat) = none) (f2 : f (spc m nt true.toNat) = none)
    (hB : ∀ (i : Nat) (t : Bool), i ≤ 5 → ∀ l : List Int, l.Nodup → (∀ c ∈ l, f c ≠ none ∧ binOf 16 c = binOf 16 (spc m i t.toNat)) → l.length ≤ 6)
    (q : ∀ G', Md (PL G b (fun x => x = a)) G G' → Rm 4 18 G G' (b + 2) → MapV KS G' (b + 2) (n + 1 + 1) (updM (updM f (spc m nf false.toNat) (some a)) (spc m nt true.toNat) (some a)) → fI G' 110 a = (m : Int) → (∀ g, g ≠ 110 → fI G' g a = fI G g a) → Q (.inl none) G') :
    TC Z (d + 6) mi_X2_lay [tR (some e), tR (some a), tI (m : Int)] G Q := by
  have p2 : gP G (b + 2) = e := sh.2.2.2.2.2.2.1 2 (by decide) (by decide)
  have le := sh.2.2.1
  have ke := sh.1
  have k2 := sh.2.2.2.2.2.2.2.2.2.1
  have h14 := sh.2.2.2.2.2.1.2.2.1
  have l2 : b + 2 < gn G := (sh.part 2 (by decide) (by decide)).2
  have W39 := W.1.1
  have a2 : a ≠ b + 2 := fun z => by rw [z, k2] at ka; omega
  have ae : a ≠ e := fun z => by rw [z, ke] at ka; omega
  have hA : ∀ c, c = a → gP G c = e ∧ gK G c = 9 := fun c hc => by rw [hc]; exact ⟨pa, ka⟩
  -- one end
  have half : ∀ (g : Bool) (nn n' : Nat) (f' : Int → Option Nat) (H : GH) (Q' : TR → GH → Prop), Md (PL G b (fun x => x = a)) G H → Fz H → MapV KS H (b + 2) n' f' → n' ≤ 46 → nn ≤ 5 → f' (spc m nn g.toNat) = none → (∀ l : List Int, l.Nodup → (∀ c ∈ l, f' c ≠ none ∧ binOf 16 c = binOf 16 (spc m nn g.toNat)) → l.length ≤ 7) →
      ∀ H1, Md (fun _ => False) H H1 → gn H1 = gn H + 1 → gs H1 = gs H + 3 → gK H1 (gn H) = 3 → gP H1 (gn H) = gn H →
      (∀ H2, Md (PL G b (fun x => x = a)) G H2 → (∀ g', fI H2 g' a = fI H g' a) → Rm 2 9 H H2 (b + 2) → MapV KS H2 (b + 2) (n' + 1) (updM f' (spc m nn g.toNat) (some a)) → Fz H2 → Q' (.inl (some (tR none))) H2) →
      ∀ (Q'' : TR → GH → Prop), (∀ H1', Md (fun c => c = gn H) H1 H1' → SpotV H1' (gn H) m nn g.toNat → gn H1' = gn H1 → gs H1' = gs H1 → TC Z (d + 5) mi_J1_put [tR (some (b + 2)), tR (some (gn H)), tR (some a)] H1' Q' → Q'' (.inl (some (tR (some (gn H))))) H1') → TC Z (d + 5) mi_X3_at [tR (some (gn H)), tI (m : Int), tI (nn : Int), tI ((g.toNat : Nat) : Int)] H1 Q'' := by
    intro g nn n' f' H Q' mH zH MH hn' hnn hf' hb' H1 m1 n1 s1 k1 p1 k Q'' kk
    refine jx_at (d := d + 4) k1 (by omega) hm hnn (fun H1' m1' n1' s1' V => kk H1' m1' V n1' s1' ?_)
    have hl : b + 2 < gn H := by have := mH.le; omega
    have mm : Md (fun _ => False) H H1' := m1.trans' m1' (fun c hc h => by omega)
    have k2' : gK H1' (b + 2) = 12 := (mm.k hl).trans ((mH.k l2).trans k2)
    have M1 : MapV KS H1' (b + 2) n' f' := MH.md mm (fun _ _ _ h => h) (fun k' c' hk' => hk'.md mm (fun _ _ h => h))
    have p1' : gP H1' (gn H) = gn H := (m1'.p (by omega)).trans p1
    refine jv_put (d := d) M1 (ky_spot V) hn' hf' hb' (mm.fz zH) (fun A mA rr => ?_) (fun A B _ mB hk k' c' hk' => hk'.mdk mB (fun ho => ?_)) (fun A B mA rr mB rm MB => ?_)
    · subst rr
      exact ⟨⟨p1', m, nn, g.toNat, V, rfl⟩, fun _ _ h => h⟩
    · obtain ⟨q1, m', n'', t', q2, -⟩ := hk'
      rcases ho with ho | ho
      · rw [ho] at q2
        have := q2.1
        omega
      · rw [q1] at ho
        rw [ho] at q2
        have := q2.1
        omega
    · subst rr
      have mB' : Md (PL G b (fun x => x = a)) G B := (mH.trans' mm (fun _ _ h => h.elim)).trans' mB (fun c hc ho => Or.inl (by
        unfold Ow at ho ⊢
        rw [mm.p (by have := mH.le; omega), mH.p hc] at ho
        exact ho))
      have aH : a < gn H := by have := mH.le; omega
      have na : ¬ Ow A (b + 2) a := fun ho => by
        rcases ho with ho | ho
        · exact a2 ho
        · rw [mm.p aH, mH.p ha, pa] at ho
          omega
      refine k B mB' (fun g' => ?_) ?_ MB (mB.fz (mm.fz zH))
      · exact (((mB.sm (by have := mm.le; omega) na).2.2.2.1 g').1).trans (((mm.sm aH id).2.2.2.1 g').1)
      · exact (Rm.same (n := 1) (s := 3) (capM_mv MH mm id) (by omega) (by omega)).trans rm
  refine c_X2_lay (gn G) ⟨a, rfl, ka, ke, fun v3 hv3 => c_X3_init (r_X2_lay_16 ⟨?_, ?_⟩)⟩
  · show gK (newG (setI G 110 a (m : Int)) 3 0 (gn G) 3) e = 2
    rw [gK_old (by show e ≠ gn G; have := sh.2.1; omega)]
    exact ke
  have m0 : Md (PL G b (fun x => x = a)) G (setI G 110 a (m : Int)) := Md.rf.setI ha (fun _ => Or.inr (Or.inr rfl))
  have z0 : Fz (setI G 110 a (m : Int)) := m0.fz hz
  have M0 : MapV KS (setI G 110 a (m : Int)) (b + 2) n f := M.md (Md.setI (P := fun c => c = a) Md.rf ha (fun _ => rfl)) (fun c hc ho h => by
    subst h
    rcases ho with ho | ho
    · exact a2 ho
    · rw [pa] at ho; omega) (fun k' c' hk' => hk'.md (Md.setI (P := fun c => c = a) Md.rf ha (fun _ => rfl)) (fun c hc h => sh.fp c hc (Or.inr (Or.inl (by rw [h]; exact pa)))))
  have i0 : fI (setI G 110 a (m : Int)) 110 a = (m : Int) := hI_at
  have j0 : ∀ g, g ≠ 110 → fI (setI G 110 a (m : Int)) g a = fI G g a := fun g hg => hI_ne (Or.inl hg)
  have g0 : gn (setI G 110 a (m : Int)) = gn G := rfl
  have t0 : gs (setI G 110 a (m : Int)) = gs G := rfl
  have c0 : capM (setI G 110 a (m : Int)) (b + 2) = capM G (b + 2) := rfl
  have R0 : fR (setI G 110 a (m : Int)) 14 e = some (b + 2) := h14
  have L0 : fI (setI G 110 a (m : Int)) 10 e = S 0 39 := (hI_ne (Or.inl (by decide))).trans h39
  generalize setI G 110 a (m : Int) = H at *
  have mN : Md (fun _ => False) H (newG H 3 0 (gn G) 3) := Md.rf.new (by omega)
  have kN : gK (newG H 3 0 (gn G) 3) (gn H) = 3 := gK_new
  have pN : gP (newG H 3 0 (gn G) 3) (gn H) = gn H := (gP_new (N := 3)).trans g0.symm
  have nN : gn (newG H 3 0 (gn G) 3) = gn H + 1 := rfl
  have sN : gs (newG H 3 0 (gn G) 3) = gs H + 3 := rfl
  have aN : ∀ g, fI (newG H 3 0 (gn G) 3) g a = fI H g a := fun _ => rfl
  have eN : fI (newG H 3 0 (gn G) 3) 10 e = S 0 39 := L0
  generalize newG H 3 0 (gn G) 3 = H1 at *
  have keH : gK H1 e = 2 := (mN.k (by have := m0.le; have := sh.2.1; omega)).trans ((m0.k sh.2.1).trans ke)
  have kaH : gK H1 a = 9 := (mN.k (by omega)).trans ((m0.k ha).trans ka)
  have x1 : fI H1 106 a = x := (aN 106).trans ((j0 106 (by decide)).trans hx.1)
  refine c_X2_from ⟨a, rfl, kaH, keH, ?_⟩
  rw [x1]
  refine jx_stage W keH eN hx.2.1 (r_X2_from_8 (r_X2_lay_22 ⟨gn H, by rw [g0], kN, ?_⟩))
  rw [hx.2.2.1]
  refine half false nf n f H _ m0 z0 M0 (by omega) hx.2.2.2 f1 (fun l nd h => Nat.le_succ_of_le (hB nf false hx.2.2.2 l nd h)) H1 mN nN sN kN pN (fun H2 m2 a2' r2 M2 z2 => r_X2_lay_30 (gn H2) ⟨fun b' hb' => (by cases hb'), ?_, fun v1 hv1 => ?_⟩) _ (fun H1' m1' V n1' s1' put => r_X2_lay_26 ⟨b + 2, hv3.symm.trans h14, ?_, put⟩)
  · obtain ⟨sh2, -⟩ : gK H2 e = 2 ∧ True := ⟨(m2.k sh.2.1).trans ke, trivial⟩
    exact sh2
  · have sm2 := m2.sm sh.2.1 (PL.no sh hA).1
    have mN2 : Md (fun _ => False) H2 (newG H2 3 0 (gn H2) 3) := Md.rf.new (Nat.le_refl _)
    have kN2 : gK (newG H2 3 0 (gn H2) 3) (gn H2) = 3 := gK_new
    have pN2 : gP (newG H2 3 0 (gn H2) 3) (gn H2) = gn H2 := gP_new (N := 3)
    have nN2 : gn (newG H2 3 0 (gn H2) 3) = gn H2 + 1 := rfl
    have sN2 : gs (newG H2 3 0 (gn H2) 3) = gs H2 + 3 := rfl
    have aN2 : ∀ g, fI (newG H2 3 0 (gn H2) 3) g a = fI H2 g a := fun _ => rfl
    have eN2 : fI (newG H2 3 0 (gn H2) 3) 10 e = S 0 39 := ((sm2.2.2.2.1 10).1).trans h39
    refine c_X3_init ?_
    generalize newG H2 3 0 (gn H2) 3 = H3 at *
    have l2' : e < gn H2 := by have := m2.le; have := sh.2.1; omega
    have keH3 : gK H3 e = 2 := (mN2.k l2').trans ((m2.k sh.2.1).trans ke)
    have kaH3 : gK H3 a = 9 := (mN2.k (by have := m2.le; omega)).trans ((m2.k ha).trans ka)
    have y1 : fI H3 107 a = y := (aN2 107).trans ((a2' 107).trans ((j0 107 (by decide)).trans hy.1))
    refine r_X2_lay_45 ⟨keH3, c_X2_to ⟨a, rfl, kaH3, keH3, ?_⟩⟩
    rw [y1]
    refine jx_stage W keH3 eN2 hy.2.1 (r_X2_to_8 (r_X2_lay_51 ⟨gn H2, rfl, kN2, ?_⟩))
    rw [hy.2.2.1]
    refine half true nt (n + 1) _ H2 _ m2 z2 M2 (by omega) hy.2.2.2 (by rw [updM_ne (fun z => spc_f z.symm hy.2.2.2 hx.2.2.2)]; exact f2) (fun l nd h => ?_) H3 mN2 nN2 sN2 kN2 pN2 (fun H4 m4 a4 r4 M4 z4 => r_X2_lay_59 ⟨fun b' hb' => (by cases hb'), q H4 m4 ?_ M4 ((a4 110).trans ((a2' 110).trans i0)) (fun g hg => (a4 g).trans ((a2' g).trans (j0 g hg)))⟩) _ (fun H3' m3' V n3' s3' put => r_X2_lay_55 ⟨b + 2, hv1.symm.trans ((sm2.2.2.2.1 14).2.trans h14), ?_, put⟩)
    · refine Nat.le_succ_of_le (hB nt true hy.2.2.2 l nd (fun c hc => ?_))
      obtain ⟨c1, c2⟩ := h c hc
      refine ⟨fun z => ?_, c2⟩
      by_cases e' : c = spc m nf false.toNat
      · rw [e', bin_spc hm hx.2.2.2 (by decide), bin_spc hm hy.2.2.2 (by decide)] at c2
        have : 2 * nf + 0 = 2 * nt + 1 := c2
        omega
      · rw [updM_ne e'] at c1
        exact c1 z
    · exact (Rm.same (n := 0) (s := 0) c0 (by omega) (by omega)).trans ((r2.trans r4))
    · rw [m3'.k (by have := m2.le; omega), mN2.k (by have := m2.le; omega), m2.k l2]
      exact k2
  · rw [m1'.k (by have := mN.le; omega), mN.k (by omega), m0.k l2]
    exact k2
end LAY
