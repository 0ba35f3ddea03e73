/-! THE EXCHANGE, 10: small changes; a call takes a path -/
section TAKE
variable {Z : ZT} {d : Nat} {G : GH} {Q : TR → GH → Prop} {e b : Nat} {S S' T T' : St}
theorem CarrE.eq (h : CarrE G b S T) (h48 : S' 48 = S 48) (h47 : S' 0 47 = S 0 47) (h51 : T' 51 = T 51) (h39 : T' 0 39 = T 0 39) (t47 : T' 0 47 = T 0 47) (h49 : T' 49 = T 49) (h50 : T' 50 = T 50) : CarrE G b S' T' := by
  obtain ⟨n, f, M, hn, hf⟩ := h
  refine ⟨n, f, M, by rw [h47, h51]; exact hn, fun m i t h1 h2 => ?_⟩
  have e : carriedAt T' = carriedAt T := by funext m v g; unfold carriedAt; rw [t47, h51, endS_eq h39 h49 h50]
  rw [e, callA_eq h48]
  exact hf m i t h1 h2
/-- a number of e's -/
theorem xr_int {f k : Nat} {v : Int} (R : Rep Z G e b S S) (hf : f = 21 ∧ k = 46 ∨ f = 22 ∧ k = 44 ∨ f = 23 ∧ k = 42 ∨ f = 24 ∧ k = 43 ∨ f = 25 ∧ k = 45) : Rep Z (setI G f e v) e b (up2 S 0 k v) (up2 S 0 k v) ∧ Md (fun x => x = e) G (setI G f e v) := by
  have m : Md (fun x => x = e) G (setI G f e v) := Md.rf.setI R.1.2.1 (fun _ => rfl) (by omega)
  have le := R.1.2.2.1
  have ne : ∀ j, 1 ≤ j → ¬ b + j = e := fun j hj z => by omega
  have fp : FP G (fun x => x = e) := R.1.fp.mono (fun x hx h => Or.inl h)
  have own : ∀ j, 1 ≤ j → j ≤ 10 → ∀ c, c < gn G → Ow G (b + j) c → ¬ c = e := fun j j1 j2 c hc ho z => by
    rcases ho with ho | ho
    · omega
    · exact (R.1.own ⟨j1, j2⟩ ho).1 z
  have hk : k ≠ 47 ∧ k ≠ 38 ∧ k ≠ 39 ∧ k ≠ 40 ∧ k ≠ 41 ∧ k ≠ 55 ∧ k ≠ 60 := by omega
  have u := fun (f : Nat) (hf : f ≠ 0) => (funext fun x => up2_ne (Or.inl hf) : up2 S 0 k v f = S f)
  refine ⟨⟨R.1.md1 m (fun _ => rfl), ?_, ?_, ?_, ?_⟩, m⟩
  · obtain ⟨c1, c2, c3, c4, c5, c6, c7, c8, c9, c10⟩ := R.2.1
    have w0 : ∀ j, j ≠ k → up2 S 0 k v 0 j = S 0 j := fun j hj => up2_ne (Or.inr hj)
    have w1 : ∀ g, g ≠ f → fI (setI G f e v) g e = fI G g e := fun g hg => hI_ne (Or.inl hg)
    have at0 : up2 S 0 k v 0 k = v := up2_at
    have at1 : fI (setI G f e v) f e = v := hI_at
    have l10 : gL (setI G f e v) (b + 10) = gL G (b + 10) := rfl
    have a8 : ∀ i, aI (setI G f e v) (b + 8) i = aI G (b + 8) i := fun _ => rfl
    unfold ScE
    rw [l10, w0 38 (by omega), w0 39 (by omega), w0 40 (by omega), w1 9 (by omega), w1 10 (by omega), w1 11 (by omega), u 65 (by decide)]
    refine ⟨c1, c2, c3, ?_, ?_, ?_, ?_, ?_, c9, c10⟩
    · rcases hf with ⟨rfl, rfl⟩ | ⟨rfl, rfl⟩ | ⟨rfl, rfl⟩ | ⟨rfl, rfl⟩ | ⟨rfl, rfl⟩ <;> first | exact at1.trans at0.symm | (rw [w0 46 (by decide), w1 21 (by decide)]; exact c4)
    · rcases hf with ⟨rfl, rfl⟩ | ⟨rfl, rfl⟩ | ⟨rfl, rfl⟩ | ⟨rfl, rfl⟩ | ⟨rfl, rfl⟩ <;> first | exact at1.trans at0.symm | (rw [w0 44 (by decide), w1 22 (by decide)]; exact c5)
    · rcases hf with ⟨rfl, rfl⟩ | ⟨rfl, rfl⟩ | ⟨rfl, rfl⟩ | ⟨rfl, rfl⟩ | ⟨rfl, rfl⟩ <;> first | exact at1.trans at0.symm | (rw [w0 42 (by decide), w1 23 (by decide)]; exact c6)
    · rcases hf with ⟨rfl, rfl⟩ | ⟨rfl, rfl⟩ | ⟨rfl, rfl⟩ | ⟨rfl, rfl⟩ | ⟨rfl, rfl⟩ <;> first | exact at1.trans at0.symm | (rw [w0 43 (by decide), w1 24 (by decide)]; exact c7)
    · rcases hf with ⟨rfl, rfl⟩ | ⟨rfl, rfl⟩ | ⟨rfl, rfl⟩ | ⟨rfl, rfl⟩ | ⟨rfl, rfl⟩ <;> first | exact at1.trans at0.symm | (rw [w0 45 (by decide), w1 25 (by decide)]; exact c8)
  · have C := R.2.2.1.md1 R.1 m (ne 1 (by decide)) (ne 10 (by decide)) (fun c hc z => by have := (R.co hc).1; rw [z, R.1.1] at this; cases this)
    have w0 : ∀ j, j ≠ k → up2 S 0 k v 0 j = S 0 j := fun j hj => up2_ne (Or.inr hj)
    have ew : ∀ s, callWith (up2 S 0 k v) s = callWith S s := fun s => callWith_congr (w0 47 (by omega)) (fun x _ => ⟨by rw [u 49 (by decide)], by rw [u 50 (by decide)]⟩)
    unfold CallsE CallO at C ⊢
    simp only [ew, w0 47 (by omega), w0 38 (by omega), w0 39 (by omega), callA_eq (u 48 (by decide)), u 48 (by decide), u 49 (by decide), u 50 (by decide), u 51 (by decide), u 52 (by decide), u 53 (by decide), u 54 (by decide)]
    exact C
  · have w0 : ∀ j, j ≠ k → up2 S 0 k v 0 j = S 0 j := fun j hj => up2_ne (Or.inr hj)
    exact (R.2.2.2.1.md1 R.1 m (ne 1 (by decide)) (own 2 (by decide) (by decide)) fp).eq (u 48 (by decide)) (w0 47 (by omega)) (u 51 (by decide)) (w0 39 (by omega)) (w0 47 (by omega)) (u 49 (by decide)) (u 50 (by decide))
  · exact (R.tail.md1 m (ne 3 (by decide)) (fun j j1 j2 => own j (by omega) (by omega)) fp).eq ⟨fun j hj => up2_ne (Or.inr (by omega)), fun f x hf _ => up2_ne (Or.inl (by omega))⟩
/-- an account -/
theorem xr_acc {k : Nat} {v : Int} (R : Rep Z G e b S S) (hk : k < 13) : Rep Z (setA G (b + 8) k v) e b (up2 S 65 k v) (up2 S 65 k v) ∧ Md (fun x => x = b + 8) G (setA G (b + 8) k v) := by
  have l8 := (R.1.part 8 (by decide) (by decide))
  have m : Md (fun x => x = b + 8) G (setA G (b + 8) k v) := Md.rf.setA l8.2 (fun _ => rfl)
  have le := R.1.2.2.1
  have fp : FP G (fun x => x = b + 8) := R.1.fp.mono (fun x hx h => by rw [h]; exact l8.1)
  have own : ∀ j, 1 ≤ j → j ≤ 10 → j ≠ 8 → ∀ c, c < gn G → Ow G (b + j) c → ¬ c = b + 8 := fun j j1 j2 j3 c hc ho z => by
    rcases ho with ho | ho
    · omega
    · exact (R.1.own ⟨j1, j2⟩ ho).2.1 8 (by decide) (by decide) z
  have u := fun (f : Nat) (hf : f ≠ 65) => (funext fun x => up2_ne (Or.inl hf) : up2 S 65 k v f = S f)
  refine ⟨⟨R.1.md1 m (fun _ => rfl), ?_, ?_, ?_, ?_⟩, m⟩
  · obtain ⟨c1, c2, c3, c4, c5, c6, c7, c8, c9, c10⟩ := R.2.1
    unfold ScE
    rw [u 0 (by decide)]
    refine ⟨c1, c2, c3, c4, c5, c6, c7, c8, c9, fun i hi => ?_⟩
    by_cases hik : i = k
    · rw [hik, hA_at, up2_at]
    · rw [hA_ne (Or.inr hik), up2_ne (Or.inr hik)]
      exact c10 i hi
  · have C := R.2.2.1.md1 R.1 m (by omega) (by omega) (fun c hc z => R.1.k9 (j := 8) (by decide) (z ▸ (R.co hc).1))
    have ew : ∀ s, callWith (up2 S 65 k v) s = callWith S s := fun s => callWith_congr (by rw [u 0 (by decide)]) (fun x _ => ⟨by rw [u 49 (by decide)], by rw [u 50 (by decide)]⟩)
    unfold CallsE CallO at C ⊢
    simp only [ew, u 0 (by decide), callA_eq (u 48 (by decide)), u 48 (by decide), u 49 (by decide), u 50 (by decide), u 51 (by decide), u 52 (by decide), u 53 (by decide), u 54 (by decide)]
    exact C
  · exact (R.2.2.2.1.md1 R.1 m (by omega) (own 2 (by decide) (by decide) (by decide)) fp).eq (u 48 (by decide)) (by rw [u 0 (by decide)]) (u 51 (by decide)) (by rw [u 0 (by decide)]) (by rw [u 0 (by decide)]) (u 49 (by decide)) (u 50 (by decide))
  · exact (R.tail.md1 m (by omega) (fun j j1 j2 => own j (by omega) (by omega) (by omega)) fp).eq ⟨fun j hj => by rw [u 0 (by decide)], fun f x _ hf => up2_ne (Or.inl hf)⟩
/-- how often a call was moved -/
theorem xr_moved {c : Nat} {v : Int} (R : Rep Z G e b S S) (W : RwS S) (hc : c < (S 0 47).toNat) : Rep Z (setI G 111 (callA G b S c) v) e b (up2 S 54 c v) (up2 S 54 c v) ∧ Md (PL G b (fun x => x = callA G b S c)) G (setI G 111 (callA G b S c) v) := by
  have C := R.co hc
  have hA : ∀ x, x = callA G b S c → gP G x = e ∧ gK G x = 9 := fun x hx => by rw [hx]; exact ⟨C.2.1, C.1⟩
  have m1 : Md (fun x => x = callA G b S c) G (setI G 111 (callA G b S c) v) := Md.rf.setI C.2.2.1 (fun _ => rfl)
  have m' : Md (PL G b (fun x => x = callA G b S c)) G (setI G 111 (callA G b S c) v) := m1.mono (fun x _ h => Or.inr (Or.inr h))
  obtain ⟨sh, sc, tl, cA, cg, fp, co⟩ := R.pl m' hA
  have p2 : gP G (b + 2) = e := R.1.2.2.2.2.2.2.1 2 (by decide) (by decide)
  have le := R.1.2.2.1
  have k2 := R.1.2.2.2.2.2.2.2.2.2.1
  have u := fun (f : Nat) (hf : f ≠ 54) => (funext fun x => up2_ne (Or.inl hf) : up2 S 54 c v f = S f)
  refine ⟨⟨sh, sc.eq (fun k _ _ _ => by rw [u 0 (by decide)]) (u 65 (by decide)), ?_, ?_, tl.eq ⟨fun k _ => by rw [u 0 (by decide)], fun f x hf _ => up2_ne (Or.inl (by omega))⟩⟩, m'⟩
  · refine CallsE.one R W hc rfl m' (fun k => by rw [u 0 (by decide)]) (u 48 (by decide)) (u 49 (by decide)) (u 50 (by decide)) (fun f x hx _ _ => up2_ne (Or.inr hx)) ?_
    obtain ⟨x1, x2, x3, x4, x5, x6, x7, x8, x9, x10⟩ := C
    refine ⟨x1, x2, x3, (hI_ne (Or.inl (by decide))).trans ?_, (hI_ne (Or.inl (by decide))).trans ?_, (hI_ne (Or.inl (by decide))).trans ?_, (hI_ne (Or.inl (by decide))).trans ?_, (hI_ne (Or.inl (by decide))).trans ?_, (hI_ne (Or.inl (by decide))).trans ?_, hI_at.trans up2_at.symm⟩ <;> (rw [up2_ne (Or.inl (by decide))]; assumption)
  · refine (R.2.2.2.1.md1 R.1 m1 (fun z => ?_) (fun x hx ho ha => ?_) (R.1.fp.mono (fun x hx ha => Or.inr (Or.inl (by rw [ha]; exact C.2.1))))).eq (u 48 (by decide)) (by rw [u 0 (by decide)]) (u 51 (by decide)) (by rw [u 0 (by decide)]) (by rw [u 0 (by decide)]) (u 49 (by decide)) (u 50 (by decide))
    · exact R.1.k9 (j := 1) (by decide) (z ▸ C.1)
    · rw [ha] at ho
      rcases ho with ho | ho
      · have := C.1
        rw [ho, k2] at this
        omega
      · rw [C.2.1] at ho; omega
/-- a chain's calls are counted as moved -/
def bumpS (l : List Nat) (S : St) : St := fun f x => if f = 54 ∧ x ∈ l then S 54 x + 1 else S f x
theorem bumpS_ne {l : List Nat} {f x : Nat} (h : f ≠ 54) : bumpS l S f x = S f x := if_neg (fun z => h z.1)
theorem bumpS_in {l : List Nat} {x : Nat} (h : x ∈ l) : bumpS l S 54 x = S 54 x + 1 := if_pos ⟨rfl, h⟩
theorem bumpS_out {l : List Nat} {f x : Nat} (h : x ∉ l) : bumpS l S f x = S f x := if_neg (fun z => h z.2)
theorem up_bump {pre : List Nat} {x : Nat} (hx : x ∉ pre) : up2 (bumpS pre S) 54 x (bumpS pre S 54 x + 1) = bumpS (pre ++ [x]) S := by
  funext f y
  by_cases hf : f = 54
  · subst hf
    by_cases hy : y = x
    · subst hy
      rw [up2_at, bumpS_out hx, bumpS_in (by simp)]
    · rw [up2_ne (Or.inr hy)]
      by_cases hp : y ∈ pre
      · rw [bumpS_in hp, bumpS_in (by simp [hp])]
      · rw [bumpS_out hp, bumpS_out (by simp [hp, hy])]
  · rw [up2_ne (Or.inl hf), bumpS_ne hf, bumpS_ne hf]
theorem flipL_cnt {p q : Int} : ∀ (l : List Nat) (S : St) (x : Nat), l.Nodup → flipL p q true l S 54 x = if x ∈ l then S 54 x + 1 else S 54 x := by
  intro l
  induction l with
  | nil => intro S x _; simp [flipL]
  | cons c l ih =>
    intro S x nd
    obtain ⟨n1, n2⟩ := List.nodup_cons.mp nd
    rw [flipL, ih _ _ n2]
    by_cases hx : x = c
    · subst hx
      rw [if_neg n1, up2_at, if_pos (List.mem_cons_self (a := x) (l := l))]
      rfl
    · rw [up2_ne (Or.inr hx), up2_ne (Or.inl (by decide))]
      by_cases hl : x ∈ l
      · rw [if_pos hl, if_pos (by simp [hl])]
      · rw [if_neg hl, if_neg (by simp [hl, hx])]
theorem flip_tookF {c : Ch} (nd : c.1.Nodup) : flipS c.2.1 c.2.2.1 c.1 S = tookS S c false := by
  funext f x
  by_cases h51 : f = 51
  · subst h51
    rw [tookS_51 nd]
    by_cases hx : x ∈ c.1
    · rw [flipS_in hx, if_pos hx]; rfl
    · rw [flipS_out hx, if_neg hx]
  · rw [flipS_ne h51]
    unfold tookS
    by_cases h65 : f = 65
    · subst h65
      by_cases h9 : x = 9
      · subst h9
        rw [up2_at, if_neg (by decide)]
        omega
      · rw [up2_ne (Or.inr h9)]
        by_cases h8 : x = 8
        · subst h8
          rw [up2_at]
          show S 65 8 = S 65 8 + 0
          omega
        · rw [up2_ne (Or.inr h8), flipL_54 h51]
    · rw [up2_ne (Or.inl h65), up2_ne (Or.inl h65), flipL_54 h51]
theorem bump_tookT {c : Ch} (nd : c.1.Nodup) : up2 (up2 (bumpS c.1 (flipS c.2.1 c.2.2.1 c.1 S)) 65 8 (S 65 8 + 1)) 65 9 (S 65 9 + (c.1.length : Int)) = tookS S c true := by
  funext f x
  unfold tookS
  by_cases h65 : f = 65
  · subst h65
    by_cases h9 : x = 9
    · subst h9
      rw [up2_at, up2_at, if_pos rfl]
    · rw [up2_ne (Or.inr h9), up2_ne (Or.inr h9)]
      by_cases h8 : x = 8
      · subst h8
        rw [up2_at, up2_at]
        rfl
      · rw [up2_ne (Or.inr h8), up2_ne (Or.inr h8), bumpS_ne (by decide), flipS_ne (by decide), flipL_off (by decide) (by decide)]
  · rw [up2_ne (Or.inl h65), up2_ne (Or.inl h65), up2_ne (Or.inl h65), up2_ne (Or.inl h65)]
    by_cases h51 : f = 51
    · subst h51
      rw [bumpS_ne (by decide), flipL_51 _ _ _ nd]
      by_cases hx : x ∈ c.1
      · rw [flipS_in hx, if_pos hx]; rfl
      · rw [flipS_out hx, if_neg hx]
    · by_cases h54 : f = 54
      · subst h54
        rw [flipL_cnt _ _ _ nd]
        by_cases hx : x ∈ c.1
        · rw [bumpS_in hx, if_pos hx, flipS_ne (by decide)]
        · rw [bumpS_out hx, if_neg hx, flipS_ne (by decide)]
      · rw [bumpS_ne h54, flipS_ne h51, flipL_off h51 h54]
theorem Col.eq (C : Col S) (h47 : S' 0 47 = S 0 47) (h51 : S' 51 = S 51) (h39 : S' 0 39 = S 0 39) (h49 : S' 49 = S 49) (h50 : S' 50 = S 50) : Col S' := by
  unfold Col
  rw [h47, h51, endS_eq h39 h49 h50]
  exact C
end TAKE
