/-! THE MODEL'S METHODS, 17: groups, heads, whole texts -/
section GRP
variable {S : St} {w l : List Int}
theorem ag_60 : addGrp S w l 0 60 = S 0 60 + 1 := if_pos ⟨rfl, rfl⟩
theorem ag_61 {g : Nat} (h : g ≠ (S 0 60).toNat) : addGrp S w l 61 g = S 61 g := by unfold addGrp; rw [if_neg (by omega), if_neg (by omega), if_neg (by omega), if_neg (by omega), if_neg (by omega)]
theorem ag_61' : addGrp S w l 61 (S 0 60).toNat = (w.length : Int) := by unfold addGrp; rw [if_neg (by omega), if_pos ⟨rfl, rfl⟩]
theorem ag_63 {g : Nat} (h : g ≠ (S 0 60).toNat) : addGrp S w l 63 g = S 63 g := by unfold addGrp; rw [if_neg (by omega), if_neg (by omega), if_neg (by omega), if_neg (by omega), if_neg (by omega)]
theorem ag_63' : addGrp S w l 63 (S 0 60).toNat = (l.length : Int) := by unfold addGrp; rw [if_neg (by omega), if_neg (by omega), if_pos ⟨rfl, rfl⟩]
theorem ag_62 {i : Nat} (h : i < (S 0 60).toNat * 6) : addGrp S w l 62 i = S 62 i := by unfold addGrp; rw [if_neg (by omega), if_neg (by omega), if_neg (by omega), if_neg (by omega), if_neg (by omega)]
theorem ag_62' {i : Nat} (h : i < w.length) : addGrp S w l 62 (6 * (S 0 60).toNat + i) = w.getD i 0 := by
  unfold addGrp
  rw [if_neg (by omega), if_neg (by omega), if_neg (by omega), if_pos ⟨rfl, by omega, by omega⟩]
  congr 1
  omega
theorem ag_64 {i : Nat} (h : i < (S 0 60).toNat * 8) : addGrp S w l 64 i = S 64 i := by unfold addGrp; rw [if_neg (by omega), if_neg (by omega), if_neg (by omega), if_neg (by omega), if_neg (by omega)]
theorem ag_64' {i : Nat} (h : i < l.length) : addGrp S w l 64 (8 * (S 0 60).toNat + i) = l.getD i 0 := by
  unfold addGrp
  rw [if_neg (by omega), if_neg (by omega), if_neg (by omega), if_neg (by omega), if_pos ⟨rfl, by omega, by omega⟩]
  congr 1
  omega
theorem getD_mem {l : List Int} {i : Nat} (h : i < l.length) : l.getD i 0 ∈ l := by
  rw [List.getD_eq_getElem?_getD, List.getElem?_eq_getElem h]
  exact List.getElem_mem h
theorem Ok.grp (V : Ok S) (h4 : S 0 60 ≠ 4) (hw : 1 ≤ w.length ∧ w.length ≤ 6) (hwl : ∀ b ∈ w, 97 ≤ b ∧ b ≤ 122) (hl : 1 ≤ l.length ∧ l.length ≤ 8) (hlm : ∀ v ∈ l, 0 ≤ v ∧ v < S 0 38 * S 0 39)
    (hd : ∀ g, g < (S 0 60).toNat → S 61 g = (w.length : Int) → (∀ i, i < w.length → S 62 (6 * g + i) = w.getD i 0) → False) : Ok (addGrp S w l) := by
  have s36 := sub36 V.1.1
  obtain ⟨⟨⟨⟨i38, i39, i40, i41, i42, i43, i44, i45, i46, i47, i55, i60⟩, irow, iwait, igrp⟩, C, r1, r2, r3, r4, r5, r6, r7, r8, r9, r10, r11⟩, L, gp⟩ := V
  have lt_or : ∀ g : Nat, g < (addGrp S w l 0 60).toNat → g < (S 0 60).toNat ∨ g = (S 0 60).toNat := fun g hg => by rw [ag_60] at hg; omega
  refine ⟨⟨⟨⟨i38, i39, i40, i41, i42, i43, i44, i45, i46, i47, i55, by rw [ag_60]; omega⟩, irow, fun x hx => ?_, fun g hg => ?_⟩, C, r1, r2, r3, r4, r5, r6, r7, r8, r9, fun g k hg hk => ?_, fun g g' hgg hg' h61 h62 => ?_⟩, L, gp⟩
  · obtain ⟨w56, w57, w58, w59⟩ := iwait x hx
    exact ⟨w56, ⟨w57.1, by show S 57 x < addGrp S w l 0 60; rw [ag_60]; have := w57.2; omega⟩, w58, w59⟩
  · rcases lt_or g hg with h | rfl
    · obtain ⟨g1, g2, g3, g4⟩ := igrp g h
      refine ⟨by rw [ag_61 (by omega)]; exact g1, fun i hi => ?_, by rw [ag_63 (by omega)]; exact g3, fun k hk => ?_⟩
      · rw [ag_61 (by omega)] at hi
        rw [ag_62 (by omega)]
        exact g2 i hi
      · rw [ag_63 (by omega)] at hk
        rw [ag_64 (by omega)]
        exact g4 k hk
    · refine ⟨by rw [ag_61']; omega, fun i hi => ?_, by rw [ag_63']; omega, fun k hk => ?_⟩
      · rw [ag_61'] at hi
        rw [ag_62' (by omega)]
        exact hwl _ (getD_mem (by omega))
      · rw [ag_63'] at hk
        rw [ag_64' (by omega)]
        have := hlm _ (getD_mem (l := l) (i := k) (by omega))
        omega
  · show addGrp S w l 64 (8 * g + k) < S 0 38 * S 0 39
    rcases lt_or g hg with h | rfl
    · obtain ⟨g1, g2, g3, g4⟩ := igrp g h
      rw [ag_63 (by omega)] at hk
      rw [ag_64 (by omega)]
      exact r10 g k h hk
    · rw [ag_63'] at hk
      rw [ag_64' (by omega)]
      exact (hlm _ (getD_mem (by omega))).2
  · rcases lt_or g' hg' with h | rfl
    · rw [ag_61 (by omega), ag_61 (by omega)] at h61
      obtain ⟨g1, -⟩ := igrp g (by omega)
      refine r11 g g' hgg h h61 (fun i hi => ?_)
      have := h62 i (by rw [ag_61 (by omega)]; exact hi)
      rwa [ag_62 (by omega), ag_62 (by omega)] at this
    · rw [ag_61 (by omega), ag_61'] at h61
      refine hd g hgg h61 (fun i hi => ?_)
      have := h62 i (by rw [ag_61 (by omega)]; omega)
      rwa [ag_62 (by omega), ag_62' hi] at this
end GRP
theorem allF_all {p : Nat → Bool} : ∀ r i, (∀ x, i ≤ x → x < i + r → p x = true) → allF p r i = true := by
  intro r
  induction r with
  | zero => intro i _; rfl
  | succ r ih =>
    intro i h
    rw [allF_step, if_pos (h i (Nat.le_refl _) (by omega))]
    exact ih (i + 1) (fun x h1 h2 => h x (by omega) (by omega))
theorem allF_get {p : Nat → Bool} : ∀ r i, allF p r i = true → ∀ x, i ≤ x → x < i + r → p x = true := by
  intro r
  induction r with
  | zero => intro i _ x h1 h2; omega
  | succ r ih =>
    intro i h x h1 h2
    rw [allF_step] at h
    split at h
    · rename_i hp
      by_cases e : x = i
      · rw [e]; exact hp
      · exact ih (i + 1) h x (by omega) (by omega)
    · cases h
theorem tW_get {B : Nat → Int} {n k i : Nat} (h : i < tE B n k - tS B n k) : (tW B n k).getD i 0 = B (tS B n k + i) := by
  unfold tW
  rw [List.getD_eq_getElem?_getD, List.getElem?_map, List.getElem?_range h]
  rfl
/-- a group is read: what is kept -/
theorem memb_in {B : Nat → Int} {n : Nat} {hi : Int} : ∀ (r p : Nat) (l : List Int) (a : List Int × Nat), p ≤ n → l.length ≤ 8 → (∀ v ∈ l, 0 ≤ v ∧ v ≤ hi) → membR B n hi r p l = .inr a → p ≤ a.2 ∧ a.2 ≤ n ∧ l.length ≤ a.1.length ∧ a.1.length ≤ 8 ∧ (∀ v ∈ a.1, 0 ≤ v ∧ v ≤ hi) ∧ (tK B n p = 2 → 0 < r → l.length + 1 ≤ a.1.length) := by
  intro r
  induction r with
  | zero => intro p l a hp hl hv h; cases h; exact ⟨Nat.le_refl _, hp, Nat.le_refl _, hl, hv, fun _ h => absurd h (Nat.lt_irrefl _)⟩
  | succ r ih =>
    intro p l a hp hl hv h
    have e1 := tE_rng (B := B) hp
    have s1 := tS_rng (B := B) hp
    simp only [membR] at h
    split at h
    · cases h1 : numR B n p 0 hi with
      | inl e => rw [h1] at h; cases h
      | inr v =>
        rw [h1] at h
        dsimp only at h
        have v1 := num_in h1
        split at h
        · cases h
        · split at h
          · cases h
          · rename_i hn h8
            have ev : v.2 = tE B n p := by rw [v1.2.2.1]
            obtain ⟨a1, a2, a3, a4, a5, -⟩ := ih v.2 (l ++ [v.1]) a (by omega) (by simp only [List.length_append, List.length_cons, List.length_nil]; omega) (fun x hx => by
              rcases List.mem_append.mp hx with hx | hx
              · exact hv x hx
              · simp only [List.mem_singleton] at hx; rw [hx]; exact ⟨v1.1, v1.2.1⟩) h
            simp only [List.length_append, List.length_cons, List.length_nil] at a3
            exact ⟨by omega, a2, by omega, a4, a5, fun _ _ => by omega⟩
    · rename_i hK
      cases h
      exact ⟨Nat.le_refl _, hp, Nat.le_refl _, hl, hv, fun h => absurd h hK⟩
theorem group_ok {B : Nat → Int} {n : Nat} {S : St} (V : Ok S) (h4 : S 0 60 ≠ 4) {p : Nat} (hp : p ≤ n) {a : St × Nat} (h : groupR B n S p = .inr a) : Ok a.1 ∧ a.1 0 44 = S 0 44 ∧ a.1 0 60 = S 0 60 + 1 ∧ p ≤ a.2 ∧ a.2 ≤ n := by
  have e1 := tE_rng (B := B) hp
  have s1 := tS_rng (B := B) hp
  unfold groupR at h
  split at h
  · cases h
  · rename_i hw
    split at h
    · cases h
    · rename_i hg
      split at h
      · cases h
      · rename_i hk2
        cases h1 : membR B n (subN S) 9 (tE B n p) [] with
        | inl e => rw [h1] at h; cases h
        | inr mm =>
          rw [h1] at h
          dsimp only at h
          obtain ⟨a1, a2, a3, a4, a5, a6⟩ := memb_in 9 (tE B n p) [] mm e1.2 (by decide) (fun v hv => by cases hv) h1
          have a6 := a6 (by omega) (by decide)
          cases h2 : semR B n mm.2 with
          | inl e => rw [h2] at h; cases h
          | inr p2 =>
            rw [h2] at h
            cases h
            have s := (sem_in h2).1
            have e2 := tE_rng (B := B) a2
            have s2 := tS_rng (B := B) a2
            have hK : tK B n p = 1 := by omega
            have hL : tkL B n p = ((tE B n p - tS B n p : Nat) : Int) := by unfold tkL; rw [if_pos hK]
            have lt := tE_lt (B := B) hp (by omega)
            have hlen := tW_len (B := B) (n := n) (k := p)
            refine ⟨V.grp h4 (by rw [hlen]; omega) (tW_low hK) (by simp only [List.length_nil] at a6; omega) (fun v hv => sub_in (a5 v hv)) (fun g hg1 hg2 hg3 => ?_), rfl, ag_60 (w := tW B n p) (l := mm.1), by dsimp only; omega, by dsimp only; omega⟩
            have hnone : grpOf B n S p = -1 := by
              by_cases z : grpOf B n S p = -1
              · exact z
              · exact absurd z hg
            have := fnd_none _ _ hnone g (Nat.zero_le _) (by omega)
            unfold grpEq at this
            rw [hlen] at hg2
            rw [decide_eq_true (by omega), Bool.true_and] at this
            rw [allF_all _ _ (fun x _ hx => by
              have := hg3 x (by rw [hlen]; omega)
              rw [tW_get (by omega)] at this
              rw [show g * 6 + x = 6 * g + x by omega]
              exact decide_eq_true this)] at this
            cases this
theorem mc_readsGroup {Z : ZT} {d : Nat} {G : GH} {Q : TR → GH → Prop} {m : Nat} {S X : St} {B : Nat → Int} {n : Nat} {p : Nat} (hM : MOK G m) (V : Ok S) (h4 : S 0 60 ≠ 4) (R : RX B n X) (h77 : X 0 77 = (p : Int)) (hp : p ≤ n) (qe : ∀ e S' X', groupR B n S p = .inl e → Xe X X' e → Q (.inl (some (tI 0))) (pM G m S' X')) (qg : ∀ a, groupR B n S p = .inr a → ∀ X', Xd X X' → X' 0 77 = (a.2 : Int) → Q (.inl (some (tI 1))) (pM G m a.1 X')) : TC Z (d + 4) mi_X5_readsGroup [tR (some m)] (pM G m S X) Q := by
  have I := V.1.1
  obtain ⟨⟨i38, i39, i40, i41, i42, i43, i44, i45, i46, i47, i55, i60⟩, irow, iwait, igrp⟩ := id I
  have sr := subN_rng I
  have hn6 := R.2.2.1
  have e1 := tE_rng (B := B) hp
  unfold groupR at qe qg
  refine c_X5_readsGroup hM (mc_token hM R h77 hp (fun X1 hX1 hT1 => r_X5_readsGroup_4 hM ?_))
  obtain ⟨t77, t78, t79, t80, t81⟩ := id hT1
  have kr := tK_rng (B := B) (n := n) (k := p)
  have lr := tkL_rng (B := B) hp
  have bad : (¬ tK B n p = 1 ∨ ¬ tkL B n p ≤ 6) → TC Z (d + 3) mi_X5_blames [tR (some m), tI 1] (pM G m S X1) (KQ Z mi_X5_readsGroup (d + 4) 23 26 [some (tR (some m)), none, none, none, none] [] Q) := fun hn => by
    rw [if_pos hn] at qe
    exact mc_blames hM (fun X3 hX3 => r_X5_readsGroup_26 hM ⟨Or.inl rfl, qe _ S X3 rfl (hX1.e (by rw [t78] at hX3; exact hX3))⟩)
  refine ⟨by omega, fun h => bad (Or.inl (fun z => h (t79.trans z))), fun h => ⟨by omega, fun h2 => ?_, fun h2 => bad (Or.inr (by omega))⟩⟩
  have hK : tK B n p = 1 := t79.symm.trans h
  have hL6 : tkL B n p ≤ 6 := by omega
  have hL : tkL B n p = ((tE B n p - tS B n p : Nat) : Int) := by unfold tkL; rw [if_pos hK]
  rw [if_neg (by omega)] at qe qg
  have gr : -1 ≤ grpOf B n S p ∧ grpOf B n S p < S 0 60 := by
    have := fnd_rng (p := grpEq B n S p) (S 0 60).toNat 0
    unfold grpOf
    omega
  refine mc_groupOfToken hM V.1 (R.d hX1) hp hT1 hK hL6 (r_X5_readsGroup_31 hM ⟨by omega, fun h3 => ?_, fun h3 => ?_⟩)
  · rw [if_neg (fun z => z h3)] at qe qg
    refine mc_token hM (R.d hX1) t77 e1.2 (fun X2 hX2 hT2 => r_X5_readsGroup_57 hM ?_)
    have kr2 := tK_rng (B := B) (n := n) (k := tE B n p)
    have t79' := hT2.2.2.1
    rw [t78, t80]
    refine ⟨by omega, fun h5 => ?_, fun h5 => ?_⟩
    · have hK2 : tK B n (tE B n p) = 2 := t79'.symm.trans h5
      rw [if_neg (fun z => z hK2)] at qe qg
      obtain ⟨MR, hMR⟩ : ∃ x, x = membR B n (subN S) 9 (tE B n p) [] := ⟨_, rfl⟩
      rw [← hMR] at qe qg
      -- the members
      have write : ∀ (l : List Int) (p' : Nat) (X3 : St), l.length ≤ 8 → Xd X X3 → X3 0 77 = (p' : Int) → (∀ i, i < l.length → X3 82 i = l.getD i 0) → (∀ X', Xd X X' → X' 0 77 = (p' : Int) → Q (.inl (some (tI 1))) (pM G m (addGrp S (tW B n p) l) X')) →
          ∀ o4, TW Z mi_X5_readsGroup (d + 4) 166 [some (tR (some m)), some (tI (tS B n p : Int)), some (tI (tkL B n p)), some (tI (l.length : Int)), o4] [tI 1] (pM G m S X3) Q := by
        intro l p' X3 hl hX3 h7 h82 qq o4
        obtain ⟨g32, g33, -, -⟩ := R.d hX3
        have hwl := tW_len (B := B) (n := n) (k := p)
        refine r_X5_readsGroup_166 hM ⟨by decide, fun _ => ⟨by omega, ?_⟩, fun h => absurd h (by decide)⟩
        -- members are laid down
        have three : ∀ (r j : Nat) (S1 : St), j + r = l.length → S1 0 60 = S 0 60 → (∀ f c, (f ≠ 0 ∨ c ≠ 60) → (f ≠ 64 ∨ c < (S 0 60).toNat * 8 + j ∨ (S 0 60).toNat * 8 + l.length ≤ c) → S1 f c = addGrp S (tW B n p) l f c) → TW Z mi_X5_readsGroup (d + 4) 233 [some (tR (some m)), some (tI (tS B n p : Int)), some (tI (tkL B n p)), some (tI (l.length : Int)), some (tI (j : Int))] [] (pM G m S1 X3) Q := by
          intro r
          induction r with
          | zero =>
            intro j S1 hj h60 he
            have e : up2 S1 0 60 (S1 0 60 + 1) = addGrp S (tW B n p) l := by
              funext f c
              by_cases z : f = 0 ∧ c = 60
              · obtain ⟨rfl, rfl⟩ := z
                rw [up2_at, ag_60, h60]
              · rw [up2_ne (by omega)]
                exact he f c (by omega) (by omega)
            refine r_X5_readsGroup_233 hM ⟨by omega, by omega, fun _ => ?_, fun h => by omega⟩
            rw [e]
            exact qq X3 hX3 h7
          | succ r ih =>
            intro j S1 hj h60 he
            have e2 : (S1 0 60 * 8 + (j : Int)).toNat = (S 0 60).toNat * 8 + j := by omega
            refine r_X5_readsGroup_233 hM ⟨by omega, by omega, fun h => by omega, fun _ => ⟨by omega, by omega, ?_⟩⟩
            rw [e2, Int.toNat_natCast, h82 j (by omega)]
            refine ih (j + 1) _ (by omega) ((up2_ne (Or.inl (by decide))).trans h60) (fun f c h1 h2 => ?_)
            by_cases z : f = 64 ∧ c = (S 0 60).toNat * 8 + j
            · obtain ⟨rfl, rfl⟩ := z
              rw [up2_at, show (S 0 60).toNat * 8 + j = 8 * (S 0 60).toNat + j by omega, ag_64' (by omega)]
            · rw [up2_ne (by omega)]
              exact he f c h1 (by omega)
        have two : ∀ (r j : Nat) (S1 : St), j + r = (tW B n p).length → S1 0 60 = S 0 60 → (∀ f c, (f ≠ 0 ∨ c ≠ 60) → (f ≠ 62 ∨ c < (S 0 60).toNat * 6 + j ∨ (S 0 60).toNat * 6 + (tW B n p).length ≤ c) → (f ≠ 63 ∨ c ≠ (S 0 60).toNat) → (f ≠ 64 ∨ c < (S 0 60).toNat * 8 ∨ (S 0 60).toNat * 8 + l.length ≤ c) → S1 f c = addGrp S (tW B n p) l f c) → TW Z mi_X5_readsGroup (d + 4) 184 [some (tR (some m)), some (tI (tS B n p : Int)), some (tI (tkL B n p)), some (tI (l.length : Int)), some (tI (j : Int))] [] (pM G m S1 X3) Q := by
          intro r
          induction r with
          | zero =>
            intro j S1 hj h60 he
            refine r_X5_readsGroup_184 hM ⟨by omega, by omega, fun _ => ⟨by omega, ?_⟩, fun h => by omega⟩
            refine three l.length 0 _ (by omega) ((up2_ne (Or.inl (by decide))).trans h60) (fun f c h1 h2 => ?_)
            rw [h60]
            by_cases z : f = 63 ∧ c = (S 0 60).toNat
            · obtain ⟨rfl, rfl⟩ := z
              rw [up2_at, ag_63']
            · rw [up2_ne (by omega)]
              exact he f c h1 (by omega) (by omega) (by omega)
          | succ r ih =>
            intro j S1 hj h60 he
            have e2 : (S1 0 60 * 6 + (j : Int)).toNat = (S 0 60).toNat * 6 + j := by omega
            have e3 : ((tS B n p : Int) + (j : Int)).toNat = tS B n p + j := by omega
            refine r_X5_readsGroup_184 hM ⟨by omega, by omega, fun h => by omega, fun _ => ⟨by omega, by omega, ?_⟩⟩
            rw [e2, e3, g32]
            refine ih (j + 1) _ (by omega) ((up2_ne (Or.inl (by decide))).trans h60) (fun f c h1 h2 h3 h4 => ?_)
            by_cases z : f = 62 ∧ c = (S 0 60).toNat * 6 + j
            · obtain ⟨rfl, rfl⟩ := z
              rw [up2_at, show (S 0 60).toNat * 6 + j = 6 * (S 0 60).toNat + j by omega, ag_62' (by omega), tW_get (by omega)]
            · rw [up2_ne (by omega)]
              exact he f c h1 (by omega) h3 h4
        refine two (tW B n p).length 0 _ (by omega) (up2_ne (Or.inl (by decide))) (fun f c h1 h2 h3 h4 => ?_)
        by_cases z : f = 61 ∧ c = (S 0 60).toNat
        · obtain ⟨rfl, rfl⟩ := z
          rw [up2_at, ag_61', hwl, hL]
        · rw [up2_ne (by omega)]
          unfold addGrp
          rw [if_neg (by omega), if_neg z, if_neg (by omega), if_neg (by omega), if_neg (by omega)]
      have loop : ∀ (r p' : Nat) (l : List Int) (X3 : St) (o4 : Option Value), l.length + r = 9 → p' ≤ n → Xd X X3 → Tk B n p' X3 → (∀ i, i < l.length → X3 82 i = l.getD i 0) → (∀ v ∈ l, 0 ≤ v ∧ v ≤ subN S) → MR = membR B n (subN S) r p' l →
          TW Z mi_X5_readsGroup (d + 4) 71 [some (tR (some m)), some (tI (tS B n p : Int)), some (tI (tkL B n p)), some (tI (l.length : Int)), o4] [] (pM G m S X3) Q := by
        intro r
        have stop : ∀ (r p' : Nat) (l : List Int) (X3 : St) (o4 : Option Value), l.length ≤ 8 → p' ≤ n → Xd X X3 → Tk B n p' X3 → (∀ i, i < l.length → X3 82 i = l.getD i 0) → ¬ tK B n p' = 2 → MR = .inr (l, p') →
            TW Z mi_X5_readsGroup (d + 4) 71 [some (tR (some m)), some (tI (tS B n p : Int)), some (tI (tkL B n p)), some (tI (l.length : Int)), o4] [] (pM G m S X3) Q := by
          intro r p' l X3 o4 hl hp' hX3 hT3 h82 hk he
          rw [he] at qe qg
          dsimp only at qe qg
          have kr3 := tK_rng (B := B) (n := n) (k := p')
          have e79 := hT3.2.2.1
          refine r_X5_readsGroup_71 hM ⟨by omega, fun _ => ?_, fun h => absurd (e79.symm.trans h) hk⟩
          refine mc_isSemicolon hM hT3 (fun e X4 he2 hX4 => r_X5_readsGroup_166 hM ⟨by decide, fun h => absurd rfl h, fun _ => qe e S X4 (by rw [he2]) (hX3.e hX4)⟩) (fun he2 => ?_)
          rw [he2] at qg
          dsimp only at qg
          exact write l (tE B n p') X3 hl hX3 hT3.1 h82 (fun X' h1 h2 => qg _ rfl X' h1 h2) o4
        induction r with
        | zero =>
          intro p' l X3 o4 hl hp' hX3 hT3 h82 hv he
          -- there are never nine
          exfalso
          have := memb_in 9 (tE B n p) [] (l, p') e1.2 (by decide) (fun v hv => by cases hv) (by rw [← hMR, he]; rfl)
          have := this.2.2.2.1
          simp only at this
          omega
        | succ r ih =>
          intro p' l X3 o4 hl hp' hX3 hT3 h82 hv he
          have kr3 := tK_rng (B := B) (n := n) (k := p')
          have e79 := hT3.2.2.1
          have e3 := tE_rng (B := B) hp'
          by_cases hk : tK B n p' = 2
          · refine r_X5_readsGroup_71 hM ⟨by omega, fun h => absurd (e79.trans hk) h, fun _ => c_X5_subscribers hM (r_X5_readsGroup_85 hM ?_)⟩
            simp only [membR] at he
            rw [if_pos hk] at he
            refine mc_isNumber (lo := 0) (hi := subN S) hM hp' hT3 (by decide) (by omega) (fun e X4 he2 hX4 => r_X5_readsGroup_90 hM ⟨by decide, fun h => absurd rfl h, fun _ => ?_⟩) (fun he2 => r_X5_readsGroup_90 hM ⟨by decide, fun _ => ?_, fun h => absurd h (by decide)⟩)
            · rw [he, he2] at qe
              exact qe e S X4 rfl (hX3.e hX4)
            · have v2 := num_in he2
              rw [he2] at he
              dsimp only at he v2
              have x81 := hT3.2.2.2.2
              have scan8 : ∀ (r' j : Nat), j + r' = l.length → (∀ i, i < j → l.getD i 0 ≠ tV B n p') → TW Z mi_X5_readsGroup (d + 4) 98 [some (tR (some m)), some (tI (tS B n p : Int)), some (tI (tkL B n p)), some (tI (l.length : Int)), some (tI (j : Int))] [] (pM G m S X3) Q := by
                intro r'
                induction r' with
                | zero =>
                  intro j hj hne
                  have hnm : ¬ tV B n p' ∈ l := fun hm => by
                    obtain ⟨i, hi, hie⟩ := List.getElem_of_mem hm
                    refine hne i (by omega) ?_
                    rw [List.getD_eq_getElem?_getD, List.getElem?_eq_getElem hi]
                    exact hie
                  rw [if_neg hnm] at he
                  refine r_X5_readsGroup_98 hM ⟨by omega, by omega, fun _ => ⟨fun h8 => ⟨by omega, ?_⟩, fun h8 => ?_⟩, fun h => by omega⟩
                  · rw [if_neg (by omega)] at he
                    rw [Int.toNat_natCast, x81]
                    have hX4 : Xd X (up2 X3 82 l.length (tV B n p')) := hX3.u82
                    refine mc_tokenZ hM (R.d hX4) (k := tE B n p') ((up2_ne (Or.inl (by decide))).trans hT3.1) e3.2 (fun X5 hX5 hT5 => r_X5_readsGroup_159 hM ?_)
                    have h82' : ∀ i, i < (l ++ [tV B n p']).length → X5 82 i = (l ++ [tV B n p']).getD i 0 := by
                      intro i hi
                      rw [hX5 82 i (by decide) (by decide) (by decide) (Or.inl (by decide))]
                      by_cases e : i = l.length
                      · subst e
                        rw [up2_at, List.getD_eq_getElem?_getD, List.getElem?_append_right (Nat.le_refl _), Nat.sub_self]
                        rfl
                      · have hi' : i < l.length := by simp only [List.length_append, List.length_cons, List.length_nil] at hi; omega
                        rw [up2_ne (Or.inr e), h82 i hi', List.getD_eq_getElem?_getD, List.getD_eq_getElem?_getD, List.getElem?_append_left hi']
                    have := ih (tE B n p') (l ++ [tV B n p']) X5 (some (tI (j : Int))) (by simp only [List.length_append, List.length_cons, List.length_nil]; omega) e3.2 (hX4.trans hX5.d) hT5 h82' (fun x hx => by
                      rcases List.mem_append.mp hx with hx | hx
                      · exact hv x hx
                      · simp only [List.mem_singleton] at hx; rw [hx]; exact ⟨v2.1, v2.2.1⟩) he
                    rw [show ((l ++ [tV B n p']).length : Int) = (l.length : Int) + 1 by simp] at this
                    exact this
                  · rw [if_pos (by omega)] at he
                    rw [he] at qe
                    exact mc_blames hM (fun X4 hX4 => r_X5_readsGroup_141 hM ⟨Or.inl rfl, qe _ S X4 rfl (hX3.e (by rw [hT3.2.1] at hX4; exact hX4))⟩)
                | succ r' ih' =>
                  intro j hj hne
                  have hlj := hv _ (getD_mem (l := l) (i := j) (by omega))
                  have vr := tV_rng (B := B) (n := n) (k := p')
                  refine r_X5_readsGroup_98 hM ⟨by omega, by omega, fun h => by omega, fun _ => ⟨by omega, ?_⟩⟩
                  rw [Int.toNat_natCast, h82 j (by omega), x81]
                  refine ⟨by omega, by omega, fun h => ih' (j + 1) (by omega) (fun i hi => ?_), fun h => ?_⟩
                  · by_cases ei : i = j
                    · rw [ei]; exact h
                    · exact hne i (by omega)
                  · have hm : tV B n p' ∈ l := by rw [← h]; exact getD_mem (by omega)
                    rw [if_pos hm] at he
                    rw [he] at qe
                    exact mc_blames hM (fun X4 hX4 => r_X5_readsGroup_123 hM ⟨Or.inl rfl, qe _ S X4 rfl (hX3.e (by rw [hT3.2.1] at hX4; exact hX4))⟩)
              exact scan8 l.length 0 (by omega) (fun i hi => absurd hi (Nat.not_lt_zero _))
          · simp only [membR] at he
            rw [if_neg hk] at he
            exact stop (r + 1) p' l X3 o4 (by omega) hp' hX3 hT3 h82 hk he
      exact loop 9 (tE B n p) [] X2 _ rfl e1.2 (hX1.trans hX2) hT2 (fun i hi => absurd hi (Nat.not_lt_zero _)) (fun v hv => by cases hv) hMR
    · have hK2 : ¬ tK B n (tE B n p) = 2 := fun z => h5 (t79'.trans z)
      rw [if_pos hK2] at qe
      exact mc_blames hM (fun X3 hX3 => r_X5_readsGroup_70 hM ⟨Or.inl rfl, qe _ S X3 rfl ((hX1.trans hX2).e (by rw [hT2.2.1] at hX3; exact hX3))⟩)
  · rw [if_pos h3] at qe
    exact mc_blames hM (fun X3 hX3 => r_X5_readsGroup_40 hM ⟨Or.inl rfl, qe _ S X3 rfl (hX1.e (by rw [t78] at hX3; exact hX3))⟩)
