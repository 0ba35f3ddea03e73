/-! THE EXCHANGE, 31: a copy -/
section COPY
variable {Z : ZT} {d : Nat} {G : GH} {Q : TR → GH → Prop} {e b : Nat} {S S' T T' : St}
/-- a copy under way: c calls, the cut set v, g groups, w waiters -/
def cpS (S : St) (c : Nat) (v : Int) (g w : Nat) : St := fun f x =>
  if f = 0 then (if x = 38 ∨ x = 39 ∨ x = 40 then S 0 x else if x = 41 then v else if x = 42 then 1 else if x = 45 then S 0 40 - 1 else if x = 47 then (c : Int) else if x = 55 then (w : Int) else if x = 60 then (g : Int) else 0)
  else if f = 65 then 0 else S f x
theorem cpS_f {c g w : Nat} {v : Int} {f x : Nat} (h0 : f ≠ 0) (h : f ≠ 65) : cpS S c v g w f x = S f x := by unfold cpS; rw [if_neg h0, if_neg h]
theorem cpS_65 {c g w : Nat} {v : Int} {x : Nat} : cpS S c v g w 65 x = 0 := by unfold cpS; rw [if_neg (by decide), if_pos rfl]
theorem cpS_s {c g w : Nat} {v : Int} {x : Nat} (h : x = 38 ∨ x = 39 ∨ x = 40) : cpS S c v g w 0 x = S 0 x := by unfold cpS; rw [if_pos rfl, if_pos h]
theorem cpS_41 {c g w : Nat} {v : Int} : cpS S c v g w 0 41 = v := rfl
theorem cpS_47 {c g w : Nat} {v : Int} : cpS S c v g w 0 47 = (c : Int) := rfl
theorem cpS_55 {c g w : Nat} {v : Int} : cpS S c v g w 0 55 = (w : Int) := rfl
theorem cpS_60 {c g w : Nat} {v : Int} : cpS S c v g w 0 60 = (g : Int) := rfl
theorem cpS_46 {c g w : Nat} {v : Int} : cpS S c v g w 0 46 = 0 := rfl
theorem cpS_up41 {c g w : Nat} {v v' : Int} : up2 (cpS S c v g w) 0 41 v' = cpS S c v' g w := by
  funext f x
  by_cases h : f = 0 ∧ x = 41
  · obtain ⟨rfl, rfl⟩ := h
    rw [up2_at]; rfl
  · rw [up2_ne (if hf : f = 0 then Or.inr (fun hx => h ⟨hf, hx⟩) else Or.inl hf)]
    unfold cpS
    by_cases hf : f = 0
    · rw [if_pos hf, if_pos hf]
      have hx : x ≠ 41 := fun hx => h ⟨hf, hx⟩
      rw [if_neg hx, if_neg hx]
    · rw [if_neg hf, if_neg hf]
theorem cpS_up60 {c g w : Nat} {v : Int} : up2 (cpS S c v g w) 0 60 (cpS S c v g w 0 60 + 1) = cpS S c v (g + 1) w := by
  funext f x
  by_cases h : f = 0 ∧ x = 60
  · obtain ⟨rfl, rfl⟩ := h
    rw [up2_at]; rfl
  · rw [up2_ne (if hf : f = 0 then Or.inr (fun hx => h ⟨hf, hx⟩) else Or.inl hf)]
    unfold cpS
    by_cases hf : f = 0
    · rw [if_pos hf, if_pos hf]
      have hx : x ≠ 60 := fun hx => h ⟨hf, hx⟩
      rw [if_neg (c := x = 60) hx, if_neg (c := x = 60) hx]
    · rw [if_neg hf, if_neg hf]
theorem cpS_wait {c g w : Nat} {v : Int} : putWait (cpS S c v g w) (S 56 w) (S 57 w) (S 58 w) (S 59 w) = cpS S c v g (w + 1) := by
  have ew : (cpS S c v g w 0 55).toNat = w := by rw [cpS_55]; exact Int.toNat_natCast w
  funext f x
  by_cases hf : f = 0
  · subst hf
    by_cases hx : x = 55
    · subst hx; rw [putWait_55]; rfl
    · rw [putWait_0 hx]
      unfold cpS
      rw [if_pos rfl, if_pos rfl, if_neg (c := x = 55) hx, if_neg (c := x = 55) hx]
  · by_cases hx : x = w ∧ 56 ≤ f ∧ f ≤ 59
    · obtain ⟨rfl, h1, h2⟩ := hx
      obtain ⟨a1, a2, a3, a4⟩ := putWait_at (S := cpS S c v g x) (c := S 56 x) (g := S 57 x) (l := S 58 x) (s := S 59 x)
      rw [ew] at a1 a2 a3 a4
      rw [cpS_f (f := f) hf (by omega)]
      have : f = 56 ∨ f = 57 ∨ f = 58 ∨ f = 59 := by omega
      rcases this with rfl | rfl | rfl | rfl
      · exact a1
      · exact a2
      · exact a3
      · exact a4
    · rw [putWait_off hf (by rw [ew]; omega)]
      unfold cpS
      rw [if_neg hf, if_neg hf]
theorem cpS_row {c g w : Nat} {v : Int} : rowS (cpS S c v g w) (S 48 c) (S 49 c) (S 50 c) (S 51 c) (S 52 c) (S 53 c) (S 54 c) = cpS S (c + 1) v g w := by
  have ew : (cpS S c v g w 0 47).toNat = c := by rw [cpS_47]; exact Int.toNat_natCast c
  funext f x
  by_cases hf : f = 0
  · subst hf
    by_cases hx : x = 47
    · subst hx; rw [rowS_47]; rfl
    · rw [rowS_0 hx]
      unfold cpS
      rw [if_pos rfl, if_pos rfl, if_neg (c := x = 47) hx, if_neg (c := x = 47) hx]
  · by_cases hx : x = c ∧ 48 ≤ f ∧ f ≤ 54
    · obtain ⟨rfl, h1, h2⟩ := hx
      obtain ⟨a1, a2, a3, a4, a5, a6, a7⟩ := rowS_at (S := cpS S x v g w) (n := S 48 x) (fr := S 49 x) (to := S 50 x) (m := S 51 x) (bg := S 52 x) (l := S 53 x) (mv := S 54 x)
      rw [ew] at a1 a2 a3 a4 a5 a6 a7
      rw [cpS_f (f := f) hf (by omega)]
      have : f = 48 ∨ f = 49 ∨ f = 50 ∨ f = 51 ∨ f = 52 ∨ f = 53 ∨ f = 54 := by omega
      rcases this with rfl | rfl | rfl | rfl | rfl | rfl | rfl
      · exact a1
      · exact a2
      · exact a3
      · exact a4
      · exact a5
      · exact a6
      · exact a7
    · rw [rowS_off hf (by rw [ew]; omega)]
      unfold cpS
      rw [if_neg hf, if_neg hf]
theorem RwS.cp {c g w : Nat} {v : Int} (W : RwS S) (hc : c ≤ (S 0 47).toNat) : RwS (cpS S c v g w) := by
  obtain ⟨⟨w1, w2⟩, w3, w4, w5⟩ := W
  have e39 : cpS S c v g w 0 39 = S 0 39 := cpS_s (by decide)
  have ee : endS (cpS S c v g w) = endS S := endS_eq e39 (funext fun x => cpS_f (by decide) (by decide)) (funext fun x => cpS_f (by decide) (by decide))
  have eN : (cpS S c v g w 0 47).toNat = c := by rw [cpS_47]; exact Int.toNat_natCast c
  refine ⟨⟨by rw [e39]; exact w1, by rw [cpS_47]; omega⟩, fun x hx => ?_, fun x y hx hy h => ?_, fun u t l nd h => ?_⟩
  · rw [eN] at hx
    rw [ee, cpS_f (by decide) (by decide), cpS_f (by decide) (by decide), cpS_f (by decide) (by decide)]
    exact w3 x (by omega)
  · rw [eN] at hx hy
    rw [cpS_f (by decide) (by decide), cpS_f (by decide) (by decide)] at h
    exact w4 x y (by omega) (by omega) h
  · refine w5 u t l nd (fun x hx => ?_)
    have := h x hx
    rw [eN, ee] at this
    exact ⟨by omega, this.2⟩
/-- all accounts at once -/
def accS (A : Nat → Int) (S : St) : St := fun f x => if f = 65 then A x else S f x
theorem xr_accs {G' : GH} {A : Nat → Int} (R : Rep Z G e b S S) (m : Md (fun x => x = b + 8) G G') (h : ∀ k, k < 13 → aI G' (b + 8) k = A k) : Rep Z G' e b (accS A S) (accS A S) := by
  have l8 := (R.1.part 8 (by decide) (by decide))
  have le := R.1.2.2.1
  have fp : FP G (fun x => x = b + 8) := R.1.fp.mono (fun x hx h => by rw [h]; exact l8.1)
  have own : ∀ j, 1 ≤ j → j ≤ 10 → j ≠ 8 → ∀ c, c < gn G → Ow G (b + j) c → ¬ c = b + 8 := fun j j1 j2 j3 c hc ho z => by
    rcases ho with ho | ho
    · omega
    · exact (R.1.own ⟨j1, j2⟩ ho).2.1 8 (by decide) (by decide) z
  have u : ∀ (f : Nat), f ≠ 65 → accS A S f = S f := fun f hf => funext fun x => if_neg hf
  have ne : ¬ e = b + 8 := by omega
  have se := m.sm R.1.2.1 ne
  refine ⟨R.1.md1 m (fun f => (se.2.2.2.1 f).2), ?_, (R.2.2.1.md1 R.1 m (by omega) (by omega) (fun c hc z => R.1.k9 (j := 8) (by decide) (z ▸ (R.co hc).1))).eq (fun k _ => by rw [u 0 (by decide)]) (fun f h1 h2 => u f (by omega)), (R.2.2.2.1.md1 R.1 m (by omega) (own 2 (by decide) (by decide) (by decide)) fp).eq (u 48 (by decide)) (by rw [u 0 (by decide)]) (u 51 (by decide)) (by rw [u 0 (by decide)]) (by rw [u 0 (by decide)]) (u 49 (by decide)) (u 50 (by decide)), (R.tail.md1 m (by omega) (fun j j1 j2 => own j (by omega) (by omega) (by omega)) fp).eq ⟨fun j hj => by rw [u 0 (by decide)], fun f x _ hf => if_neg hf⟩⟩
  obtain ⟨c1, c2, c3, c4, c5, c6, c7, c8, c9, c10⟩ := R.2.1
  have f := fun i => (se.2.2.2.1 i).1
  have p10 := m.l (b := b + 10) (R.1.part 10 (by decide) (by decide)).2
  unfold ScE
  rw [u 0 (by decide)]
  exact ⟨(f 9).trans c1, (f 10).trans c2, (f 11).trans c3, (f 21).trans c4, (f 22).trans c5, (f 23).trans c6, (f 24).trans c7, (f 25).trans c8, p10.trans c9, h⟩
/-- the natives' copy of accounts -/
theorem r_X2_copy_195 {t s0 a0 : Nat} {r1 : Option Nat} {x2 : Int} {o3 : Option Value} (hk0 : gK G s0 = 100) (hk : gK G a0 = 100) (h0 : gL G s0 = 13) (h1 : gL G a0 = 13) (h : TW Z mi_X2_copy (d + 1) 198 [some (tR (some t)), some (tR r1), some (tI x2), o3] [] (cpyG G s0 0 a0 0 13) Q) :
    TW Z mi_X2_copy (d + 1) 195 [some (tR (some t)), some (tR r1), some (tI x2), o3] [tI 13, tI 0, tR (some a0), tI 0, tR (some s0)] G Q := by
  exact tw_acpy (t := 0) dX2_copy_195 q2169 q535 q534 q170 rfl (Or.inl hk0) hk (by decide) (by decide) (by decide) (by rw [h0]; decide) (by rw [h1]; decide) (fun j h1 h2 => Or.inl rfl) (by decide) h
end COPY
