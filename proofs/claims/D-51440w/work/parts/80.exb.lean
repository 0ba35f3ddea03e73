/-! THE EXCHANGE, 11: a call takes a path -/
section TAKE2
variable {Z : ZT} {d : Nat} {G : GH} {Q : TR → GH → Prop} {e b : Nat} {S S' T T' : St}
/-- what is touched as a path is taken -/
def PT (G : GH) (b : Nat) (A : Nat → Prop) : Nat → Prop := fun c => PL G b A c ∨ c = b + 8
theorem PT.trans {A A1 : Nat → Prop} {G1 G2 : GH} (m : Md (PT G b A) G G1) (m1 : Md (PT G1 b A1) G1 G2) (h : ∀ x, A1 x → A x) : Md (PT G b A) G G2 :=
  m.trans' m1 (fun x hx hp => by
    rcases hp with (hp | hp | hp) | hp
    · exact Or.inl (Or.inl (by unfold Ow at hp ⊢; rw [m.p hx] at hp; exact hp))
    · exact Or.inl (Or.inr (Or.inl hp))
    · exact Or.inl (Or.inr (Or.inr (h x hp)))
    · exact Or.inr hp)
theorem PT.reg (sh : ShE G e b) {A : Nat → Prop} (hA : ∀ c, A c → gP G c = e ∧ gK G c = 9) : ∀ c, c < gn G → PT G b A c → RegE G e b c := fun c hc hp => by
  rcases hp with hp | hp
  · exact PL.reg sh hA c hc hp
  · exact sh.reg hc (Or.inr (Or.inl ⟨8, by decide, by decide, hp⟩))
theorem Md.pt {A : Nat → Prop} {G' : GH} (m : Md (PL G b A) G G') : Md (PT G b A) G G' := m.mono (fun _ _ h => Or.inl h)
theorem callA_pt (sh : ShE G e b) {A : Nat → Prop} (hA : ∀ c, A c → gP G c = e ∧ gK G c = 9) {G' : GH} (m : Md (PT G b A) G G') (h : S' 48 = S 48) (x : Nat) : callA G' b S' x = callA G b S x :=
  (callA_eq h x).trans (callA_md1 sh m (fun hp => by
    rcases hp with hp | hp
    · exact (PL.no sh hA).2.1 1 (by decide) (by decide) (by decide) (by decide) hp
    · omega) x)
/-- where a path leads -/
theorem route_path {i j rule low : Int} {ch : Bool} {pa : Nat} (P : PathR Z G b S i j rule ch low G (some pa)) :
    (∃ m, (route S i j rule ch low true) = (m, S) ∧ m = hunted S i j rule low ∧ m ≠ -1 ∧ PathO Z G pa m (-1) (-1) []) ∨
    (∃ c, hunted S i j rule low = -1 ∧ ch = true ∧ chain S i j low = some c ∧ (∀ cn, route S i j rule ch low cn = (chMid c, tookS S c cn)) ∧ c.1.length ≤ 10 ∧ PathO Z G pa (chMid c) c.2.1 c.2.2.1 (c.1.map (callA G b S))) := by
  unfold PathR at P
  by_cases h : hunted S i j rule low = -1
  · rw [if_pos h] at P
    by_cases hc : ch = true
    · rw [if_pos hc] at P
      right
      cases hx : chain S i j low with
      | none => rw [hx] at P; cases P
      | some c =>
        rw [hx] at P
        obtain ⟨l, a, ea, P⟩ := P
        cases ea
        refine ⟨c, h, hc, rfl, fun cn => ?_, l, P⟩
        unfold route
        rw [if_pos ⟨h, hc⟩, hx]
    · rw [if_neg hc] at P; cases P
  · rw [if_neg h] at P
    obtain ⟨a, ea, P⟩ := P
    cases ea
    refine Or.inl ⟨hunted S i j rule low, ?_, rfl, h, P⟩
    unfold route
    rw [if_neg (fun z => h z.1)]
/-- the chain of a path is swapped -/
theorem xc_swapc {pa i j : Nat} {low : Int} {c : Ch} (V : Inv S) (R : Rep Z G e b S S) (hi : (i : Int) < S 0 38) (hj : (j : Int) < S 0 38) (N : NoOpen S (i : Int) (j : Int) low) (g : ChGood S (i : Int) (j : Int) low c) (l10 : c.1.length ≤ 10) (P : PathO Z G pa (chMid c) c.2.1 c.2.2.1 (c.1.map (callA G b S))) (hz : Fz G)
    (qq : ∀ G', c.1.Nodup → Md (PL G b (RowA G b S)) G G' → Rm 40 180 G G' (b + 2) → Rep Z G' e b (flipS c.2.1 c.2.2.1 c.1 S) (flipS c.2.1 c.2.2.1 c.1 S) → Q (.inl none) G') :
    TC Z (d + 7) mi_X2_swap [tR (some e), tR (some pa)] G Q := by
  obtain ⟨nd, col, -, -⟩ := took_ok V.1 V.2.1 N g false
  have r40 := V.r40
  obtain ⟨g1, g2, g3, g4, g5, g6, g7⟩ := id g
  refine xc_swap R V.rw P nd l10 (fun x hx => ?_) (fun _ => ⟨⟨g1.1, by omega⟩, ⟨g2.1, by omega⟩⟩) V.2.1 (by rw [flip_tookF nd]; exact col) hz (fun G' m rm R' => qq G' nd m ?_ R')
  · rw [g7] at hx
    exact walkS_mm x hx
  · unfold Rm at rm ⊢
    omega
/-- taking a path, up to where the call is laid -/
theorem xc_take {pa a i j : Nat} {rule low : Int} {ch : Bool} (V : Inv S) (R : Rep Z G e b S S) (hi : (i : Int) < S 0 38) (hj : (j : Int) < S 0 38) (P : PathR Z G b S (i : Int) (j : Int) rule ch low G (some pa)) (hz : Fz G)
    (k : ∀ (G1 : GH) (m : Nat), (m : Int) = (route S (i : Int) (j : Int) rule ch low true).1 → m ≤ 8 → Md (PT G b (RowA G b S)) G G1 → Rm 40 180 G G1 (b + 2) → Rep Z G1 e b (route S (i : Int) (j : Int) rule ch low true).2 (route S (i : Int) (j : Int) rule ch low true).2 → Fz G1 →
      ∀ Q' : TR → GH → Prop, (∀ G2, CgE e b G1 G2 → Q (.inl none) (setI G2 25 e (m : Int)) → Q' (.inl none) G2) → TC Z (d + 7) mi_X2_lay [tR (some e), tR (some a), tI (m : Int)] G1 Q') :
    TC Z (d + 8) mi_X2_take [tR (some e), tR (some a), tR (some pa)] G Q := by
  have r40 := V.r40
  have hA := R.rowA
  have fpx : ∀ {G1}, Md (PT G b (RowA G b S)) G G1 → FP G (PT G b (RowA G b S)) := fun _ => R.1.fp.mono (PT.reg R.1 hA)
  -- the last part
  have lay : ∀ (G1 : GH) (m : Nat) (p q : Int) (l : List Nat) (o3 : Option Value), (m : Int) = (route S (i : Int) (j : Int) rule ch low true).1 → m ≤ 8 → Md (PT G b (RowA G b S)) G G1 → Rm 40 180 G G1 (b + 2) → Rep Z G1 e b (route S (i : Int) (j : Int) rule ch low true).2 (route S (i : Int) (j : Int) rule ch low true).2 → PathO Z G1 pa (m : Int) p q l → TC Z (d + 7) mi_X2_lay [tR (some e), tR (some a), tI (m : Int)] G1 (KQ Z mi_X2_take (d + 8) 81 84 [some (tR (some e)), some (tR (some a)), some (tR (some pa)), o3] [] Q) := by
    intro G1 m p q l o3 hm hm8 mm rm R1 P1
    refine k G1 m hm hm8 mm rm R1 (mm.fz hz) _ (fun G2 cg q2 => r_X2_take_84 ⟨pa, rfl, ?_, ?_, ?_⟩)
    · rw [cg.k P1.2.2.1]; exact P1.1
    · rw [cg.k R1.1.2.1]; exact R1.k
    · have := (P1.fp cg R1.1.fp).2.2.2.1
      rw [this]
      exact q2
  rcases route_path P with ⟨m, hr, hm, hm1, P1⟩ | ⟨c, hh, hch, hc, hr, l10, P1⟩
  · obtain ⟨mn, hmn⟩ : ∃ mn : Nat, m = (mn : Int) := ⟨m.toNat, by have := hunted_rng V.1 (i := (i : Int)) (j := (j : Int)) (rule := rule) (low := low); omega⟩
    have m8 : mn ≤ 8 := by have := hunted_rng V.1 (i := (i : Int)) (j := (j : Int)) (rule := rule) (low := low); omega
    obtain ⟨k1, k2, k3, k4, k5, k6, u, k7, k8, k9⟩ := id P1
    refine c_X2_take ⟨pa, rfl, k1, c_X8_isOpen ⟨k1, fun v1 hv1 => ⟨u, hv1.symm.trans k7, k9.1, ls_empty k9 (by decide) (r_X8_isOpen_9 ⟨Or.inr rfl, r_X2_take_4 ⟨by decide, fun _ => ⟨pa, rfl, k1, R.k, ?_⟩, fun hn => absurd hn (by decide)⟩⟩)⟩⟩⟩
    rw [k4, hmn]
    rw [hmn] at P1
    exact lay G mn _ _ _ _ (by rw [hr]; exact hmn.symm) m8 Md.rf (Rm.same rfl (by omega) (by omega)) (by rw [hr]; exact R) P1
  · have N := (hunted_iff V.1).mp hh
    have g := chain_good hc
    have pos := (walk_all V.1 V.2.1 (i : Int) (j : Int) low N c.2.1 c.2.2.1 c.2.2.2 g.1.1 g.1.2 g.2.1.1 g.2.1.2 g.2.2.1 g.2.2.2.1 g.2.2.2.2.1 g.2.2.2.2.2.1).1
    rw [← g.2.2.2.2.2.2] at pos
    obtain ⟨k1, k2, k3, k4, k5, k6, u, k7, k8, k9⟩ := id P1
    have hne : c.1.map (callA G b S) ≠ [] := fun z => by rw [List.map_eq_nil_iff.mp z] at pos; exact absurd pos (Nat.lt_irrefl _)
    obtain ⟨mn, hmn, m8⟩ : ∃ mn : Nat, chMid c = (mn : Int) ∧ mn ≤ 8 := by
      have g1 := g.1
      have g2 := g.2.1
      unfold chMid
      split
      · exact ⟨c.2.1.toNat, by omega, by omega⟩
      · exact ⟨c.2.2.1.toNat, by omega, by omega⟩
    refine c_X2_take ⟨pa, rfl, k1, c_X8_isOpen ⟨k1, fun v1 hv1 => ⟨u, hv1.symm.trans k7, k9.1, ls_empty k9 (by rw [List.length_map]; exact l10) (r_X8_isOpen_9 ⟨?_, r_X2_take_4 ?_⟩)⟩⟩⟩
    · rw [decide_eq_false hne]; exact Or.inl rfl
    rw [decide_eq_false hne]
    refine ⟨by decide, fun hn => absurd rfl hn, fun _ => ⟨R.k, xc_swapc (i := i) (j := j) V R hi hj N g l10 P1 hz (fun G1 nd m1 rm1 R1 => r_X2_take_12 ?_)⟩⟩
    have mem := fun x (hx : x ∈ c.1) => by
      have h := hx
      rw [g.2.2.2.2.2.2] at h
      exact (walkS_mm x h).1
    have W1 : RwS (flipS c.2.1 c.2.2.1 c.1 S) := V.rw.flip
    have loop : ∀ (post pre : List Nat) (G2 : GH), c.1 = pre ++ post → Md (PT G b (RowA G b S)) G G2 → Rm 40 180 G G2 (b + 2) → Rep Z G2 e b (bumpS pre (flipS c.2.1 c.2.2.1 c.1 S)) (bumpS pre (flipS c.2.1 c.2.2.1 c.1 S)) →
        TW Z mi_X2_take (d + 8) 14 [some (tR (some e)), some (tR (some a)), some (tR (some pa)), some (tI (pre.length : Int))] [] G2 Q := by
      intro post
      induction post with
      | nil =>
        intro pre G2 hlp m2 rm2 R2
        rw [List.append_nil] at hlp
        have P2 := P1.fp m2 (fpx m2)
        obtain ⟨j1, j2, j3, j4, j5, j6, u', j7, j8, j9⟩ := id P2
        rw [← hlp] at R2
        have t19 := R2.1.2.2.2.2.2.1.2.2.2.2.2.2.2.1
        have k8' := R2.1.2.2.2.2.2.2.2.2.2.2.2.2.2.2.2.1
        have l8' := R2.1.2.2.2.2.2.2.2.2.2.2.2.2.2.2.2.2.1
        have acc := R2.2.1.2.2.2.2.2.2.2.2.2
        obtain ⟨R3, m3⟩ := xr_acc (k := 8) (v := aI G2 (b + 8) 8 + 1) R2 (by decide)
        obtain ⟨R4, m4⟩ := xr_acc (k := 9) (v := aI (setA G2 (b + 8) 8 (aI G2 (b + 8) 8 + 1)) (b + 8) 9 + (c.1.length : Int)) R3 (by decide)
        have e8 : aI G2 (b + 8) 8 = S 65 8 := (acc 8 (by decide)).trans ((bumpS_ne (by decide)).trans (flipS_ne (by decide)))
        have e9 : aI (setA G2 (b + 8) 8 (aI G2 (b + 8) 8 + 1)) (b + 8) 9 = S 65 9 := (hA_ne (Or.inr (by decide))).trans ((acc 9 (by decide)).trans ((bumpS_ne (by decide)).trans (flipS_ne (by decide))))
        rw [e9, e8, bump_tookT nd] at R4
        have m34 : Md (PT G b (RowA G b S)) G (setA (setA G2 (b + 8) 8 (S 65 8 + 1)) (b + 8) 9 (S 65 9 + (c.1.length : Int))) := by
          rw [e9, e8] at m4
          rw [e8] at m3
          exact (m2.trans' m3 (fun _ _ h => Or.inr h)).trans' m4 (fun _ _ h => Or.inr h)
        have P4 := P1.fp m34 (fpx m34)
        refine r_X2_take_14 ⟨pa, rfl, j1, c_X8_length ⟨j1, fun v1 hv1 => ⟨u', hv1.symm.trans j7, j9.1, ls_size j9 (r_X8_length_9 (r_X2_take_19 ⟨by rw [← hlp]; omega, ?_, fun _ => ⟨R2.k, fun v2 hv2 => ⟨b + 8, hv2.symm.trans t19, Or.inl k8', by rw [l8']; decide, b + 8, hv2.symm.trans t19, k8', by rw [l8']; decide, fun v8 hv8 => ⟨b + 8, hv8.symm.trans t19, Or.inl k8', by rw [l8']; decide, pa, rfl, j1, ?_⟩⟩⟩, fun hn => ?_⟩))⟩⟩⟩
        · rw [List.length_map]; omega
        · have P3 := P2.fp m3 (R2.1.fp.mono (fun x hx h => by rw [h]; exact (R2.1.part 8 (by decide) (by decide)).1))
          obtain ⟨i1, i2, i3, i4, i5, i6, u3, i7, i8, i9⟩ := id P3
          refine c_X8_length ⟨i1, fun v1 hv1 => ⟨u3, hv1.symm.trans i7, i9.1, ls_size i9 (r_X8_length_9 (r_X2_take_73 ⟨b + 8, hv8.symm.trans t19, k8', ?_, pa, rfl, ?_, R3.k, ?_⟩))⟩⟩
          · show 0 ≤ 9 ∧ (9 : Int) < (gL G2 (b + 8) : Int)
            rw [l8']; decide
          · exact j1
          · have em : fI (setA (setA G2 (b + 8) 8 (aI G2 (b + 8) 8 + 1)) (b + 8) 9 (aI (setA G2 (b + 8) 8 (aI G2 (b + 8) 8 + 1)) (b + 8) 9 + (c.1.length : Int))) 101 pa = (mn : Int) := j4.trans hmn
            have goal := lay (setA (setA G2 (b + 8) 8 (S 65 8 + 1)) (b + 8) 9 (S 65 9 + (c.1.length : Int))) mn _ _ _ (some (tI (pre.length : Int))) (by rw [hr true]; exact hmn.symm) m8 m34 rm2 (by rw [hr true]; exact R4) (by rw [hmn] at P4; exact P4)
            rw [← e8, ← e9] at goal
            rw [List.length_map]
            have j4' : fI G2 101 pa = (mn : Int) := j4.trans hmn
            have : fI (setA G2 (b + 8) (8 : Int).toNat (aI G2 (b + 8) (8 : Int).toNat + 1)) 101 pa = (mn : Int) := j4'
            rw [this]
            exact goal
        · rw [List.length_map, hlp] at hn; omega
      | cons x post ih =>
        intro pre G2 hlp m2 rm2 R2
        have P2 := P1.fp m2 (fpx m2)
        obtain ⟨j1, j2, j3, j4, j5, j6, u', j7, j8, j9⟩ := id P2
        have ll : c.1.length = pre.length + (post.length + 1) := by rw [hlp, List.length_append, List.length_cons]
        have xl : x ∈ c.1 := by rw [hlp]; simp
        have hN := mem x xl
        have ndx : x ∉ pre := by
          intro hx
          have nd' := nd
          rw [hlp] at nd'
          exact (List.nodup_append.mp nd').2.2 x hx x (by simp) rfl
        have e0 : bumpS pre (flipS c.2.1 c.2.2.1 c.1 S) 0 47 = S 0 47 := (bumpS_ne (by decide)).trans (flipS_ne (by decide))
        have hN1 : x < (bumpS pre (flipS c.2.1 c.2.2.1 c.1 S) 0 47).toNat := by rw [e0]; exact hN
        have cA2 := callA_pt (S := S) (S' := bumpS pre (flipS c.2.1 c.2.2.1 c.1 S)) R.1 hA m2 (funext fun y => (bumpS_ne (by decide)).trans (flipS_ne (by decide))) x
        have CO := R2.co hN1
        rw [cA2] at CO
        have W2 : RwS (bumpS pre (flipS c.2.1 c.2.2.1 c.1 S)) := W1.eq (bumpS_ne (by decide)) (bumpS_ne (by decide)) (funext fun y => bumpS_ne (by decide)) (funext fun y => bumpS_ne (by decide)) (funext fun y => bumpS_ne (by decide))
        have gx : (c.1.map (callA G b S)).getD pre.length 0 = callA G b S x := by rw [hlp, List.map_append, List.map_cons]; have := getD_mid (pre := pre.map (callA G b S)) (post := post.map (callA G b S)) (x := callA G b S x) (d := 0); rw [List.length_map] at this; exact this
        obtain ⟨R3, m3⟩ := xr_moved (v := bumpS pre (flipS c.2.1 c.2.2.1 c.1 S) 54 x + 1) R2 W2 hN1
        rw [up_bump ndx, cA2] at R3
        rw [cA2] at m3
        have f111 : fI G2 111 (callA G b S x) = bumpS pre (flipS c.2.1 c.2.2.1 c.1 S) 54 x := CO.2.2.2.2.2.2.2.2.2
        refine r_X2_take_14 ⟨pa, rfl, j1, c_X8_length ⟨j1, fun v1 hv1 => ⟨u', hv1.symm.trans j7, j9.1, ls_size j9 (r_X8_length_9 (r_X2_take_19 ⟨by omega, ?_, fun hle => ?_, fun _ => ⟨pa, rfl, j1, fun v4 hv4 => ⟨u', hv4.symm.trans j7, j9.1, jc_get (d := d + 4) (j9.2.2.2 hne) (by rw [List.length_map]; omega) ?_⟩⟩⟩))⟩⟩⟩
        · rw [List.length_map]; omega
        · rw [List.length_map] at hle; omega
        rw [gx]
        refine r_X2_take_32 ⟨fun b' hb' => by cases hb'; exact CO.1, _, rfl, CO.1, _, rfl, CO.1, ?_⟩
        rw [f111]
        have rr := ih (pre ++ [x]) _ (by rw [hlp]; simp) (PT.trans m2 m3.pt (fun z hz' => ⟨x, hN, hz'⟩)) (by unfold Rm at rm2 ⊢; exact rm2) R3
        rw [show ((pre ++ [x]).length : Int) = (pre.length : Int) + 1 by simp] at rr
        exact rr
    refine loop c.1 [] G1 rfl m1.pt rm1 ?_
    have : bumpS [] (flipS c.2.1 c.2.2.1 c.1 S) = flipS c.2.1 c.2.2.1 c.1 S := by funext f x; exact bumpS_out (by simp)
    rw [this]
    exact R1
end TAKE2
