/-! THE EXCHANGE, 7: lifting and laying a call -/
section LIFT
variable {Z : ZT} {d : Nat} {G : GH} {Q : TR → GH → Prop} {e b : Nat} {S T : St}
theorem capM_mv {KP : GH → Nat → Int → Prop} {P : Nat → Prop} {G' : GH} {h n : Nat} {f : Int → Option Nat} (M : MapV KP G h n f) (m : Md P G G') (hp : ¬ P h) : capM G' h = capM G h := by
  obtain ⟨N, M1, -⟩ := M
  exact capM_md M1 m ((m.sm M1.2.1 hp).2.2.2.1 120).2
theorem Rm.trans {A B C : GH} {h n n' s s' : Nat} (x : Rm n s A B h) (y : Rm n' s' B C h) : Rm (n + n') (s + s') A C h := by
  unfold Rm at *
  omega
theorem Rm.same {G' : GH} {h n s : Nat} (c : capM G' h = capM G h) (h1 : gn G' ≤ gn G + n) (h2 : gs G' ≤ gs G + s) : Rm n s G G' h := by
  unfold Rm
  rw [c]
  omega
theorem jx_at {k m n : Nat} {t : Bool} (hk : gK G k = 3) (hkn : k < gn G) (hm : m ≤ 8) (hn : n ≤ 5) (q : ∀ G', Md (fun c => c = k) G G' → gn G' = gn G → gs G' = gs G → SpotV G' k m n t.toNat → Q (.inl (some (tR (some k)))) G') : TC Z (d + 1) mi_X3_at [tR (some k), tI (m : Int), tI (n : Int), tI ((t.toNat : Nat) : Int)] G Q := by
  have tb : t.toNat ≤ 1 := by cases t <;> decide
  refine c_X3_at ⟨hk, by omega, q _ (((Md.setI (P := fun c => c = k) Md.rf hkn (fun _ => rfl)).setI hkn (fun _ => rfl)).setI hkn (fun _ => rfl)) rfl rfl ⟨hk, hkn, hm, hn, tb, (hI_ne (Or.inl (by decide))).trans ((hI_ne (Or.inl (by decide))).trans hI_at), (hI_ne (Or.inl (by decide))).trans hI_at, hI_at⟩⟩
theorem jx_stage {x : Int} (W : RwS S) (hk : gK G e = 2) (h39 : fI G 10 e = S 0 39) (hx : inR x) (q : Q (.inl (some (tI (x.tdiv (S 0 39))))) G) : TC Z (d + 1) mi_X2_stage [tR (some e), tI x] G Q := by
  have := W.1.1
  exact c_X2_stage ⟨hk, hx, by rw [h39]; omega, by rw [h39]; omega, by rw [h39]; exact q⟩
theorem jx_from {a c : Nat} (W : RwS S) (hc : c < (S 0 47).toNat) (hk : gK G e = 2) (h39 : fI G 10 e = S 0 39) (ka : gK G a = 9) (h106 : fI G 106 a = S 49 c) (q : Q (.inl (some (tI (endS S c false)))) G) : TC Z (d + 2) mi_X2_from [tR (some e), tR (some a)] G Q := by
  have := (W.2.1 c hc).1.2.1
  exact c_X2_from ⟨a, rfl, ka, hk, by rw [h106]; exact jx_stage W hk h39 (by omega) (r_X2_from_8 q)⟩
theorem jx_to {a c : Nat} (W : RwS S) (hc : c < (S 0 47).toNat) (hk : gK G e = 2) (h39 : fI G 10 e = S 0 39) (ka : gK G a = 9) (h107 : fI G 107 a = S 50 c) (q : Q (.inl (some (tI (endS S c true)))) G) : TC Z (d + 2) mi_X2_to [tR (some e), tR (some a)] G Q := by
  have := (W.2.1 c hc).1.2.2
  exact c_X2_to ⟨a, rfl, ka, hk, by rw [h107]; exact jx_stage W hk h39 (by omega) (r_X2_to_8 q)⟩
theorem SameR.eq (h : SameR S T) : (T 0 39 = S 0 39) ∧ T 0 47 = S 0 47 ∧ endS T = endS S := by
  have f := fun f (hf : f ≠ 51) => (funext fun c => h.2 f c hf : T f = S f)
  exact ⟨h.1 39, h.1 47, endS_eq (h.1 39) (f 49 (by decide)) (f 50 (by decide))⟩
theorem SameR.up {c : Nat} {v w : Int} (h : SameR S T) : SameR (up2 S 51 c v) (up2 T 51 c w) := by
  refine ⟨fun k => ?_, fun f x hf => ?_⟩
  · rw [up2_ne (Or.inl (by decide)), up2_ne (Or.inl (by decide))]; exact h.1 k
  · rw [up2_ne (Or.inl hf), up2_ne (Or.inl hf)]; exact h.2 f x hf
theorem spc_f {m n m' i : Nat} (h : spc m' i false.toNat = spc m n true.toNat) (hn : n ≤ 5) (hi : i ≤ 5) : False := by
  have := (spc_inj hi (by decide) hn (by decide) h).2.2
  cases this
/-- what the map knows, once a call is out -/
theorem CarrE.lift {G' : GH} {n c m : Nat} {f : Int → Option Nat} {nf nt : Nat} (SR : SameR S T) (CT : Col T) (hc : c < (S 0 47).toNat) (hm : m ≤ 8) (hT : T 51 c = (m : Int)) (hnf : endS S c false = (nf : Int) ∧ nf ≤ 5) (hnt : endS S c true = (nt : Int) ∧ nt ≤ 5)
    (M : MapV KS G' (b + 2) (n - 1 - 1) (updM (updM f (spc m nf false.toNat) none) (spc m nt true.toNat) none)) (hn : (n : Int) = 2 * sumI (fun c => b2i (decide (T 51 c ≠ -1))) (S 0 47).toNat 0) (cA : ∀ x, callA G' b S x = callA G b S x)
    (hf : ∀ (m i : Nat) (t : Bool), m ≤ 8 → i ≤ 5 → f (spc m i t.toNat) = if carriedAt T (m : Int) (i : Int) t = -1 then none else some (callA G b S (carriedAt T (m : Int) (i : Int) t).toNat)) : CarrE G' b (up2 S 51 c (-1)) (up2 T 51 c (-1)) := by
  obtain ⟨e39, e47, ee⟩ := SR.eq
  refine ⟨_, _, M, ?_, fun m' i t hm' hi => ?_⟩
  · have s := sum_one (f := fun x => b2i (decide (up2 T 51 c (-1) 51 x ≠ -1))) (g := fun x => b2i (decide (T 51 x ≠ -1))) (S 0 47).toNat hc (fun x hx => by rw [up2_ne (Or.inr hx)])
    rw [up2_at, hT, decide_eq_true (show ((m : Int) ≠ -1) by omega)] at s
    have s' : sumI (fun x => b2i (decide (up2 T 51 c (-1) 51 x ≠ -1))) (S 0 47).toNat 0 = sumI (fun x => b2i (decide (T 51 x ≠ -1))) (S 0 47).toNat 0 + (0 - 1) := s
    rw [show (up2 S 51 c (-1)) 0 47 = S 0 47 from up2_ne (Or.inl (by decide)), s']
    have h0 := sum_mono (f := fun x => b2i (decide (up2 T 51 c (-1) 51 x ≠ -1))) (fun k => (b2i_01 _).1) (S 0 47).toNat 0
    rw [Nat.zero_add] at h0
    have h0' : 0 ≤ sumI (fun x => b2i (decide (up2 T 51 c (-1) 51 x ≠ -1))) (S 0 47).toNat 0 := h0
    omega
  · rw [carr_up CT (by rw [e47]; exact hc) hT (by omega) (by omega), callA_eq (funext fun x => up2_ne (Or.inl (by decide))), cA, ee]
    by_cases h : (m' : Int) = (m : Int) ∧ endS S c t = (i : Int)
    · rw [if_pos h, if_pos rfl]
      obtain ⟨h1, h2⟩ := h
      have h1 : m' = m := by omega
      subst h1
      cases t
      · have : nf = i := by omega
        subst this
        rw [updM_ne (fun z => spc_f z hnt.2 hi), updM_at]
      · have : nt = i := by omega
        subst this
        rw [updM_at]
    · rw [if_neg h, ← hf m' i t hm' hi]
      cases t
      · rw [updM_ne (fun z => spc_f z hnt.2 hi), updM_ne (fun z => h (by
          obtain ⟨z1, z2, -⟩ := spc_inj hi (by decide) hnf.2 (by decide) z
          exact ⟨by omega, by omega⟩))]
      · rw [updM_ne (fun z => h (by
          obtain ⟨z1, z2, -⟩ := spc_inj hi (by decide) hnt.2 (by decide) z
          exact ⟨by omega, by omega⟩)), updM_ne (fun z => spc_f z.symm hi hnf.2)]
/-- lifting a call from its middle -/
theorem xc_lift {c m : Nat} (R : Rep Z G e b S T) (W : RwS S) (SR : SameR S T) (CT : Col T) (hc : c < (S 0 47).toNat) (hm : m ≤ 8) (hS : S 51 c = (m : Int)) (hT : T 51 c = (m : Int))
    (q : ∀ G', Md (PL G b (fun x => x = callA G b S c)) G G' → gn G' = gn G → gs G' = gs G → capM G' (b + 2) = capM G (b + 2) → Rep Z G' e b (up2 S 51 c (-1)) (up2 T 51 c (-1)) → Q (.inl none) G') :
    TC Z (d + 6) mi_X2_lift [tR (some e), tR (some (callA G b S c))] G Q := by
  have h14 := R.1.2.2.2.2.2.1.2.2.1
  have h20 := R.1.2.2.2.2.2.1.2.2.2.2.2.2.2.2
  obtain ⟨k9, n9, p9⟩ := R.k9
  have C := R.co hc
  have hA : ∀ x, x = callA G b S c → gP G x = e ∧ gK G x = 9 := fun x hx => by rw [hx]; exact ⟨C.2.1, C.1⟩
  have hF : ∀ (x : Nat), False → gP G x = e ∧ gK G x = 9 := fun x h => h.elim
  obtain ⟨e39, e47, ee⟩ := SR.eq
  obtain ⟨nf, hnf⟩ := (W.2.1 c hc).2 false
  obtain ⟨nt, hnt⟩ := (W.2.1 c hc).2 true
  have p2 : gP G (b + 2) = e := R.1.2.2.2.2.2.2.1 2 (by decide) (by decide)
  have le := R.1.2.2.1
  refine c_X2_lift ⟨R.k, fun v1 hv1 v3 hv3 => ⟨_, rfl, C.1, ?_⟩⟩
  rw [show fI G 110 (callA G b S c) = (m : Int) from C.2.2.2.2.2.2.2.2.1.trans hS]
  refine jx_from W hc R.k R.f39 C.1 C.2.2.2.2.1 (r_X2_lift_17 ⟨b + 9, hv3.symm.trans h20, k9, ?_⟩)
  rw [hnf.1]
  refine jx_at (t := false) k9 n9 hm hnf.2 (fun G1 m1 n1 s1 V1 => r_X2_lift_21 ⟨b + 2, hv1.symm.trans h14, ?_, ?_⟩)
  · rw [m1.k (by omega)]; exact R.1.2.2.2.2.2.2.2.2.2.1
  have K1 : Qk b G G1 := ⟨m1, n1, s1⟩
  have R1 := R.qk K1
  have cA1 := R.qA K1 (S := S)
  obtain ⟨n, f, M, hn, hf⟩ := R1.2.2.2.1
  simp only [cA1] at hf
  have k2 : gK G1 (b + 2) = 12 := R1.1.2.2.2.2.2.2.2.2.2.1
  have at_ : ∀ t, carriedAt T (m : Int) (endS T c t) t = (c : Int) := fun t => CT.at (by rw [e47]; exact hc) (by omega) hT rfl
  rw [ee] at at_
  have f1 : f (spc m nf false.toNat) = some (callA G b S c) := by
    have a := at_ false
    rw [hnf.1] at a
    rw [hf m nf false hm hnf.2, a, if_neg (by omega), Int.toNat_natCast]
  have f2 : f (spc m nt true.toNat) = some (callA G b S c) := by
    have a := at_ true
    rw [hnt.1] at a
    rw [hf m nt true hm hnt.2, a, if_neg (by omega), Int.toNat_natCast]
  have n2 : 2 ≤ n := by
    have s := sum_one (f := fun x => b2i (decide (T 51 x ≠ -1))) (g := fun x => b2i (decide (up2 T 51 c (-1) 51 x ≠ -1))) (S 0 47).toNat hc (fun x hx => by rw [up2_ne (Or.inr hx)])
    rw [up2_at, hT, decide_eq_true (show ((m : Int) ≠ -1) by omega)] at s
    have s' : sumI (fun x => b2i (decide (T 51 x ≠ -1))) (S 0 47).toNat 0 = sumI (fun x => b2i (decide (up2 T 51 c (-1) 51 x ≠ -1))) (S 0 47).toNat 0 + (1 - 0) := s
    have h0 := sum_mono (f := fun x => b2i (decide (up2 T 51 c (-1) 51 x ≠ -1))) (fun k => (b2i_01 _).1) (S 0 47).toNat 0
    rw [Nat.zero_add] at h0
    have h0' : 0 ≤ sumI (fun x => b2i (decide (up2 T 51 c (-1) 51 x ≠ -1))) (S 0 47).toNat 0 := h0
    omega
  have fpo : ∀ {A : GH}, ShE A e b → FP A (Ow A (b + 2)) := fun sh => sh.fp.mono (fun x hx ho => sh.reg hx (Or.inr (Or.inr (Or.inr ⟨2, Or.inl rfl, by decide, ho⟩))))
  refine jv_del k2 M (ky_spot V1) (fun k' hk' => eq_spot V1 hk') f1 (by omega) (fun B mB k' c' hk' => hk'.md mB (fpo R1.1)) (fun G2 m2 g2 s2 c2 M2 => ?_)
  have mm2 : Md (PL G b (fun _ => False)) G G2 := (m1.mono (P' := PL G b (fun _ => False)) (fun x _ hx => Or.inr (Or.inl hx))).trans' m2 (fun x hx ho => Or.inl (by unfold Ow at ho ⊢; rw [m1.p hx] at ho; exact ho))
  obtain ⟨sh2, sc2, tl2, cA2, cg2, fp2, co2⟩ := R.pl mm2 hF
  have C2 := co2 c hc id
  have k92 : gK G2 (b + 9) = 3 := (mm2.k n9).trans k9
  refine r_X2_lift_24 ⟨fun b' hb' => by cases hb'; exact C2.1, sh2.1, fun v1' hv1' v3' hv3' => ⟨_, rfl, C2.1, ?_⟩⟩
  rw [show fI G2 110 (callA G b S c) = (m : Int) from C2.2.2.2.2.2.2.2.2.1.trans hS]
  refine jx_to W hc sh2.1 sc2.2.1 C2.1 C2.2.2.2.2.2.1 (r_X2_lift_45 ⟨b + 9, hv3'.symm.trans sh2.2.2.2.2.2.1.2.2.2.2.2.2.2.2, k92, ?_⟩)
  rw [hnt.1]
  have n92 : b + 9 < gn G2 := by have := mm2.le; omega
  refine jx_at (t := true) k92 n92 hm hnt.2 (fun G3 m3 n3 s3 V3 => r_X2_lift_49 ⟨b + 2, hv1'.symm.trans sh2.2.2.2.2.2.1.2.2.1, ?_, ?_⟩)
  · rw [m3.k (by omega)]; exact sh2.2.2.2.2.2.2.2.2.2.1
  have M3 : MapV KS G3 (b + 2) (n - 1) (updM f (spc m nf false.toNat) none) := M2.md m3 (fun x hx ho h9 => by
    rcases ho with ho | ho
    · omega
    · have := sh2.2.2.2.2.2.2.1 9 (by decide) (by decide)
      rw [h9, this] at ho
      omega) (fun k' c' hk' => hk'.md m3 (fp9 sh2))
  have sh3 := sh2.md m3 (fun x _ _ h => h)
  have k23 : gK G3 (b + 2) = 12 := sh3.2.2.2.2.2.2.2.2.2.1
  refine jv_del k23 M3 (ky_spot V3) (fun k' hk' => eq_spot V3 hk') (by rw [updM_ne (fun z => spc_f z.symm hnt.2 hnf.2)]; exact f2) (by omega) (fun B mB k' c' hk' => hk'.md mB (fpo sh3)) (fun G4 m4 g4 s4 c4 M4 => ?_)
  have mm3 : Md (PL G b (fun _ => False)) G G3 := mm2.trans' m3 (fun x _ hx => Or.inr (Or.inl hx))
  have mm4 : Md (PL G b (fun _ => False)) G G4 := mm3.trans' m4 (fun x hx ho => Or.inl (by unfold Ow at ho ⊢; rw [mm3.p hx] at ho; exact ho))
  obtain ⟨sh4, sc4, tl4, cA4, cg4, fp4, co4⟩ := R.pl mm4 hF
  have C4 := co4 c hc id
  refine r_X2_lift_52 ⟨fun b' hb' => by cases hb'; exact C4.1, _, rfl, C4.1, ?_⟩
  have al4 : callA G b S c < gn G4 := C4.2.2.1
  have m5 : Md (fun x => x = callA G b S c) G4 (setI G4 110 (callA G b S c) (-1)) := Md.rf.setI al4 (fun _ => rfl)
  have mm5 : Md (PL G b (fun x => x = callA G b S c)) G (setI G4 110 (callA G b S c) (-1)) := (mm4.mono (P' := PL G b (fun x => x = callA G b S c)) (fun x _ hx => hx.elim Or.inl (fun h => h.elim (fun h => Or.inr (Or.inl h)) (fun h => h.elim)))).setI al4 (fun _ => Or.inr (Or.inr rfl))
  obtain ⟨sh5, sc5, tl5, cA5, cg5, fp5, co5⟩ := R.pl mm5 hA
  have CO : CallO (setI G4 110 (callA G b S c) (-1)) e (callA G b S c) (up2 S 51 c (-1)) c := by
    obtain ⟨x1, x2, x3, x4, x5, x6, x7, x8, x9, x10⟩ := C4
    refine ⟨x1, x2, x3, (hI_ne (Or.inl (by decide))).trans ?_, (hI_ne (Or.inl (by decide))).trans ?_, (hI_ne (Or.inl (by decide))).trans ?_, (hI_ne (Or.inl (by decide))).trans ?_, (hI_ne (Or.inl (by decide))).trans ?_, hI_at.trans up2_at.symm, (hI_ne (Or.inl (by decide))).trans ?_⟩ <;> (rw [up2_ne (Or.inl (by decide))]; assumption)
  refine q _ mm5 (by show gn G4 = gn G; omega) (by show gs G4 = gs G; omega) ?_ ⟨sh5, sc5.eq (fun k _ _ _ => up2_ne (Or.inl (by decide))) (funext fun x => up2_ne (Or.inl (by decide))), ?_, ?_, tl5.eq ⟨fun k _ => up2_ne (Or.inl (by decide)), fun f x hf _ => up2_ne (Or.inl (by omega))⟩⟩
  · have c5 : capM (setI G4 110 (callA G b S c) (-1)) (b + 2) = capM G4 (b + 2) := rfl
    rw [c5, c4, capM_mv M2 m3 (by omega), c2, capM_mv (R.2.2.2.1.choose_spec.choose_spec.1) m1 (by omega)]
  · exact CallsE.one R W hc rfl mm5 (fun k => up2_ne (Or.inl (by decide))) (funext fun x => up2_ne (Or.inl (by decide))) (funext fun x => up2_ne (Or.inl (by decide))) (funext fun x => up2_ne (Or.inl (by decide))) (fun f x hx _ _ => up2_ne (Or.inr hx)) CO
  · refine CarrE.lift SR CT hc hm hT hnf hnt (M4.md m5 (fun x hx ho ha => ?_) (fun k' c' hk' => hk'.md m5 (fun x hx ha => ?_))) hn cA5 hf
    · rw [ha] at ho
      rcases ho with ho | ho
      · have := C4.1
        rw [ho] at this
        have := sh4.2.2.2.2.2.2.2.2.2.1
        omega
      · have := C4.2.1
        omega
    · rw [ha] at hx
      exact sh4.fp _ hx (Or.inr (Or.inl C4.2.1))
end LIFT
