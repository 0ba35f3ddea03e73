/-! THE EXCHANGE, 34: the copy -/
section COPY4
variable {Z : ZT} {d : Nat} {G G1 : GH} {Q : TR → GH → Prop} {e b : Nat} {S S' T T' : St}
theorem clr_same : SameE (clr (S 0 38) (S 0 39) (S 0 40)) (cpS S 0 0 0 0) := by
  have z0 : ∀ f c, f ≠ 0 → clr (S 0 38) (S 0 39) (S 0 40) f c = 0 := fun f c h => clr_f h
  have c47 : clr (S 0 38) (S 0 39) (S 0 40) 0 47 = 0 := clr_0 (by decide)
  have c55 : clr (S 0 38) (S 0 39) (S 0 40) 0 55 = 0 := clr_0 (by decide)
  have c60 : clr (S 0 38) (S 0 39) (S 0 40) 0 60 = 0 := clr_0 (by decide)
  have c41 : clr (S 0 38) (S 0 39) (S 0 40) 0 41 = 0 := clr_0 (by decide)
  refine ⟨fun k k1 k2 k3 => ?_, fun k _ => ?_, by rw [c55]; rfl, by rw [c60]; rfl, fun f c _ _ hc => by rw [c47] at hc; exact absurd hc (Nat.not_lt_zero c), fun k _ => by rw [cpS_65, z0 65 k (by decide)], fun f w _ _ hw => by rw [c55] at hw; exact absurd hw (Nat.not_lt_zero w), fun g hg => by rw [c60] at hg; exact absurd hg (Nat.not_lt_zero g)⟩
  · have : k = 38 ∨ k = 39 ∨ k = 40 ∨ k = 42 ∨ k = 43 ∨ k = 44 ∨ k = 45 ∨ k = 46 ∨ k = 47 := by omega
    rcases this with rfl | rfl | rfl | rfl | rfl | rfl | rfl | rfl | rfl <;> rfl
  · unfold isCutB
    rw [c41, cpS_41]
/-- an exchange is copied -/
theorem xc_copy (V : Ok S) (R : Rep Z G e b S S) (E : EnvE Z G)
    (q : ∀ G', Md (fun _ => False) G G' → gn G' ≤ gn G + 168 → gs G' ≤ gs G + 2744 → Rep Z G' (gn G) (gn G) S S → gP G' (gn G) = gP G e → WL G' (gn G) = WL G b → Q (.inl (some (tR (some (gn G))))) G') :
    TC Z (d + 11) mi_X2_copy [tR (some e)] G Q := by
  obtain ⟨s1, s2, s3⟩ := R.1.2.2.2.2.1
  have en := R.1.2.1
  have r38 := V.1.r38
  have r39 := V.1.r39
  have r40 := V.1.r40
  have m0 : Md (fun _ => False) G (newG G 2 0 (gP G e) 17) := Md.rf.new (by omega)
  have k0 : gK (newG G 2 0 (gP G e) 17) (gn G) = 2 := gK_new
  have p0 : gP (newG G 2 0 (gP G e) 17) (gn G) = gP G e := gP_new (N := 17)
  have n0 : gn (newG G 2 0 (gP G e) 17) = gn G + 1 := rfl
  have t0 : gs (newG G 2 0 (gP G e) 17) = gs G + 17 := rfl
  have z0 : ∀ f, fI (newG G 2 0 (gP G e) 17) f (gn G) = 0 := fun f => ((E.2.2.2 (gn G) (Nat.le_refl _)).2.1 f).1
  refine c_X2_copy (gP G e) ⟨(m0.k en).trans R.k, ?_⟩
  rw [R.f38, R.f39, R.f40]
  generalize newG G 2 0 (gP G e) 17 = G0 at *
  refine xc_init (d := d + 5) (e := gn G) (b := gn G) ⟨Nat.le_refl _, n0, k0, by omega, by rw [p0]; omega, by rw [p0, m0.k s1]; exact s2, by rw [p0, m0.p s1]; exact s3⟩ z0 (E.md m0 (fun _ _ z => z)) r38 r39 r40 (fun G1 m1 n1 t1 R1 w1 => r_X2_copy_19 ?_)
  have m01 : Md (fun _ => False) G G1 := m0.trans' m1 (fun c hc z => by omega)
  have RP := R1.same clr_same
  have o1 : Op0 Z (gn G) (gn G) 0 0 G1 G1 (cpS S 0 0 0 0) := ⟨Md.rf, Rm.same rfl (Nat.le_refl _) (Nat.le_refl _), RP⟩
  have hp : CpH Z G G1 e b S := ⟨R, V, E, m01⟩
  refine cp_calls (d := d + 1) hp o1 w1 (fun H2 o3 o2 w2 => cp_cuts (d := d + 1) hp o3 (fun H3 w hw5 hw o3' w3 => cp_groups (d := d + 1) hp o3 (fun H4 o4 w4 => cp_waiters (d := d + 1) hp o3 (fun H5 o5 w5 => cp_end (d := d + 1) hp hw hw5 o5 w5 (fun F oF wF => ?_)) H4 o4 w4) H3 o3' w3) H2 o2 w2) none
  obtain ⟨mF, -, -, -, -⟩ := hp.at oF
  have rm := oF.2.1
  have l1 := lvM_le (capM G1 (gn G + 2))
  refine q F mF (by unfold Rm at rm; omega) (by unfold Rm at rm; omega) oF.2.2 ?_ wF
  rw [oF.1.p (by omega), m1.p (by omega)]
  exact p0
end COPY4
