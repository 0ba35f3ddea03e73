/-! THE MODEL'S METHODS, 9: what would be, what will be -/
theorem iOff_row {f c : Nat} (h1 : 48 ≤ f) (h2 : f ≤ 54) (h3 : c < 20) : iOff f c < 261 := by
  have : f = 48 ∨ f = 49 ∨ f = 50 ∨ f = 51 ∨ f = 52 ∨ f = 53 ∨ f = 54 := by omega
  rcases this with rfl | rfl | rfl | rfl | rfl | rfl | rfl <;> simp [iOff, h3] <;> omega
theorem iOff_wait {f c : Nat} (h1 : 56 ≤ f) (h2 : f ≤ 59) (h3 : c < 8) : iOff f c < 261 := by
  have : f = 56 ∨ f = 57 ∨ f = 58 ∨ f = 59 := by omega
  rcases this with rfl | rfl | rfl | rfl <;> simp [iOff, h3] <;> omega
theorem iOff_0 {c : Nat} (h1 : 38 ≤ c) (h2 : c ≤ 47 ∨ c = 55 ∨ c = 60) : iOff 0 c < 261 := by
  rcases h2 with h | rfl | rfl
  · simp [iOff, h1, h]; omega
  · decide
  · decide
theorem iOff_65 {c : Nat} (h1 : c < 13) : iOff 65 c < 261 := by simp [iOff, h1]; omega
/-- what an image does not hold is kept -/
def Kp (S S' : St) : Prop := ∀ f c : Nat, 261 ≤ iOff f c → S' f c = S f c
theorem Kp.rf {S : St} : Kp S S := fun _ _ _ => rfl
theorem Kp.trans {A B C : St} (h : Kp A B) (k : Kp B C) : Kp A C := fun f c j => (k f c j).trans (h f c j)
theorem Kp.up {S : St} {f c : Nat} {v : Int} (h : iOff f c < 261) : Kp S (up2 S f c v) := fun f' c' j => up2_ne (by
  by_cases e : f' = f
  · refine Or.inr (fun e2 => ?_)
    subst e e2
    omega
  · exact Or.inl e)
theorem Kp.u0 {S : St} {c : Nat} {v : Int} (h1 : 38 ≤ c) (h2 : c ≤ 47 ∨ c = 55 ∨ c = 60) : Kp S (up2 S 0 c v) := Kp.up (iOff_0 h1 h2)
theorem Kp.acc {S : St} {k : Nat} {v : Int} (h : k < 13) : Kp S (addAcc S k v) := Kp.up (iOff_65 h)
theorem Kp.delR {S : St} {p : Nat} (h : (S 0 47).toNat ≤ 20) : Kp S (delRow S p) := fun f c j => by
  have h0 : f ≠ 0 ∨ c ≠ 47 := by
    by_cases e : f = 0
    · refine Or.inr (fun e2 => ?_)
      subst e e2
      have := iOff_0 (c := 47) (by decide) (by decide)
      omega
    · exact Or.inl e
  unfold delRow
  rw [up2_ne h0]
  exact if_neg (fun q => by have := iOff_row q.1 q.2.1 (show c < 20 by omega); omega)
theorem Kp.delW {S : St} {p : Nat} (h : (S 0 55).toNat ≤ 8) : Kp S (delWait S p) := fun f c j => by
  have h0 : f ≠ 0 ∨ c ≠ 55 := by
    by_cases e : f = 0
    · refine Or.inr (fun e2 => ?_)
      subst e e2
      have := iOff_0 (c := 55) (by decide) (by decide)
      omega
    · exact Or.inl e
  unfold delWait
  rw [up2_ne h0]
  exact if_neg (fun q => by have := iOff_wait q.1 q.2.1 (show c < 8 by omega); omega)
theorem Kp.addR {S : St} {fr to last mm : Int} (h : (S 0 47).toNat < 20) : Kp S (addRow S fr to last mm) := by
  unfold addRow
  refine Kp.trans ?_ (Kp.u0 (c := 46) (by decide) (by decide))
  refine Kp.trans ?_ (Kp.u0 (c := 47) (by decide) (by decide))
  refine Kp.trans ?_ (Kp.up (iOff_row (by decide) (by decide) h))
  refine Kp.trans ?_ (Kp.up (iOff_row (by decide) (by decide) h))
  refine Kp.trans ?_ (Kp.up (iOff_row (by decide) (by decide) h))
  refine Kp.trans ?_ (Kp.up (iOff_row (by decide) (by decide) h))
  refine Kp.trans ?_ (Kp.up (iOff_row (by decide) (by decide) h))
  refine Kp.trans ?_ (Kp.up (iOff_row (by decide) (by decide) h))
  refine Kp.trans ?_ (Kp.up (iOff_row (by decide) (by decide) h))
  exact Kp.u0 (c := 45) (by decide) (by decide)
theorem Kp.flip {p q : Int} {b : Bool} : ∀ (l : List Nat) (S : St), (∀ x ∈ l, x < 20) → Kp S (flipL p q b l S) := by
  intro l
  induction l with
  | nil => intro S _; exact Kp.rf
  | cons c l ih =>
    intro S h
    have hc := h c List.mem_cons_self
    exact Kp.trans (Kp.trans (Kp.up (iOff_row (by decide) (by decide) hc)) (Kp.up (iOff_row (by decide) (by decide) hc))) (ih _ (fun x hx => h x (List.mem_cons_of_mem _ hx)))
theorem Kp.rte {S : St} (I : Rg S) {i j rule low : Int} {chains counts : Bool} : Kp S (route S i j rule chains low counts).2 := by
  obtain ⟨⟨i38, i39, i40, i41, i42, i43, i44, i45, i46, i47, i55, i60⟩, irow, iwait, igrp⟩ := id I
  unfold route
  split
  · split
    · exact Kp.rf
    · rename_i c hch
      have g := chain_good hch
      have hm : ∀ x ∈ c.1, x < 20 := by
        obtain ⟨-, -, -, -, -, -, hw⟩ := g
        intro x hx
        rw [hw] at hx
        have := walkS_mem x hx
        omega
      show Kp S (tookS S c counts)
      unfold tookS
      exact Kp.trans (Kp.trans (Kp.flip _ _ hm) (Kp.up (iOff_65 (by decide)))) (Kp.up (iOff_65 (by decide)))
  · exact Kp.rf
theorem Kp.bgn {S : St} (V : Inv S) {fr to last : Int} : Kp S (begins S fr to last) := by
  have i47 := V.1.1.2.2.2.2.2.2.2.2.2.1
  unfold begins
  refine Kp.trans (Kp.rte V.1) (Kp.addR ?_)
  rw [(route_ok V).2.1 0 47 (by decide) (by decide) (by decide)]
  omega
theorem Kp.srL : ∀ (r w : Nat) (S : St), Inv S → w + r = (S 0 55).toNat → Kp S (servesL r w S) := by
  intro r
  induction r with
  | zero => intro w S _ _; exact Kp.rf
  | succ r ih =>
    intro w S V h
    have i55 := V.1.1.2.2.2.2.2.2.2.2.2.2.1
    simp only [servesL]
    split
    · exact ih (w + 1) S V (by omega)
    · rename_i hn
      obtain ⟨a, b, c⟩ := V.srv (by omega) hn
      refine Kp.trans ?_ (ih w _ a (by rw [b]; omega))
      have e55 : addAcc (addAcc S 11 1) 12 (S 0 44 - S 59 w) 0 55 = S 0 55 := (acc_ne (by decide)).trans (acc_ne (by decide))
      have V2 : Inv (addAcc (addAcc S 11 1) 12 (S 0 44 - S 59 w)) := (V.acc 11 1).acc 12 _
      exact Kp.trans (Kp.trans (Kp.acc (by decide)) (Kp.acc (by decide))) (Kp.trans (Kp.delW (by rw [e55]; omega)) (Kp.bgn (V2.delW (by rw [e55]; omega))))
theorem Kp.srs {S : St} (V : Inv S) : Kp S (serves S) := Kp.srL _ _ S V (by omega)
theorem Kp.eds : ∀ (r c : Nat) (e : Int) (S : St), Ok S → c + r = (S 0 47).toNat → Kp S (endsL r c e S).2 := by
  intro r
  induction r with
  | zero => intro c e S _ _; exact Kp.rf
  | succ r ih =>
    intro c e S V h
    have i47 := V.1.1.1.2.2.2.2.2.2.2.2.2.1
    simp only [endsL]
    split
    · exact Kp.trans (Kp.trans (Kp.delR (by omega)) (Kp.acc (by decide))) (ih c (e + 1) (addAcc (delRow S c) 0 1) (V.del (by omega) (Or.inl rfl)) (by rw [acc_0, delRow_47]; omega))
    · exact ih (c + 1) e S V (by omega)
theorem Kp.pss {S : St} (V : Ok S) (h : S 0 44 < 100000) : Kp S (passes S).2 := by
  have i44 := V.1.1.1.2.2.2.2.2.2.1
  have i47 := V.1.1.1.2.2.2.2.2.2.2.2.2.1
  have V1 := V.tick (v := S 0 44 + 1) (by omega)
  have e47 : up2 S 0 44 (S 0 44 + 1) 0 47 = S 0 47 := up2_ne (Or.inr (by decide))
  exact Kp.trans (Kp.u0 (by decide) (by decide)) (Kp.trans (Kp.eds _ _ _ _ V1 (by rw [e47]; omega)) (Kp.srs (endsL_ok _ _ _ _ V1 (by rw [e47]; omega)).1.1))
theorem Kp.ctL {fl : Nat → Bool} : ∀ (r k c : Nat) (e : Int) (S : St), CutI fl r k c S → Kp S (cutL fl r k c e S).2 := by
  intro r
  induction r with
  | zero => intro k c e S h; exact Kp.rf
  | succ r ih =>
    intro k c e S h
    have i47 := h.1.1.1.2.2.2.2.2.2.2.2.2.1
    simp only [cutL]
    split
    · rename_i hk
      exact ih (k + 1) (c + 1) e S (h.skip hk)
    · rename_i hk
      have hk : fl k = true := by simpa using hk
      obtain ⟨hc, hm⟩ := h.at hk
      have e47 := (reroute_ok h.1 h.2.1 hc hm).2.2.1 0 47 (by decide) (by decide) (by decide)
      have kr : Kp S (reroute S c).2 := Kp.rte h.1.1
      split
      · exact Kp.trans (Kp.trans kr (Kp.trans (Kp.delR (by rw [e47]; omega)) (Kp.acc (by decide)))) (ih (k + 1) c (e + 1) _ (h.drop hk).1)
      · rename_i hn
        refine Kp.trans ?_ (ih (k + 1) (c + 1) e _ (h.put hk hn).1)
        unfold rerouted
        exact Kp.trans kr (Kp.trans (Kp.trans (Kp.up (iOff_row (by decide) (by decide) (by omega))) (Kp.up (iOff_row (by decide) (by decide) (by omega)))) (Kp.trans (Kp.u0 (by decide) (by decide)) (Kp.acc (by decide))))
theorem Kp.lft {S : St} {fl : Nat → Bool} (h : (S 0 47).toNat ≤ 20) : Kp S (lifted S fl) := fun f c j => if_neg (fun q => by
  have := iOff_row (f := f) (c := c) (by omega) (by omega) (by omega)
  omega)
theorem Kp.cts {S : St} (V : Ok S) {k : Int} (hk : 0 ≤ k ∧ k < S 0 40) : Kp S (cuts S k).2 := by
  have i47 := V.1.1.1.2.2.2.2.2.2.2.2.2.1
  have e47 : up2 S 0 41 (ior (S 0 41) (ishl 1 k)) 0 47 = S 0 47 := up2_ne (Or.inr (by decide))
  exact Kp.trans (Kp.u0 (c := 41) (by decide) (by decide)) (Kp.trans (Kp.lft (by rw [e47]; omega)) (Kp.ctL _ _ _ _ _ (cut_start V hk)))
theorem Kp.pkL {low : Int} : ∀ (r c : Nat) (S : St), PackI low r c S → Kp S (packL low r c S) := by
  intro r
  induction r with
  | zero => intro c S _; exact Kp.rf
  | succ r ih =>
    intro c S h
    have i47 := h.1.1.1.2.2.2.2.2.2.2.2.2.1
    have hc := h.2.1
    exact Kp.trans (Kp.trans (Kp.rte h.1.1) (Kp.up (iOff_row (by decide) (by decide) (by omega)))) (ih (c + 1) _ h.step.1)
theorem Kp.mvL {old : Nat → Int} : ∀ (r c : Nat) (e : Int) (S : St), c + r ≤ 20 → Kp S (movedL old r c e S).2 := by
  intro r
  induction r with
  | zero => intro c e S _; exact Kp.rf
  | succ r ih =>
    intro c e S h
    simp only [movedL]
    split
    · exact ih (c + 1) e S (by omega)
    · exact Kp.trans (Kp.up (iOff_row (by decide) (by decide) (by omega))) (ih (c + 1) (e + 1) _ (by omega))
theorem Kp.pks {S : St} (V : Ok S) : Kp S (packs S).2 := by
  have i47 := V.1.1.1.2.2.2.2.2.2.2.2.2.1
  exact Kp.trans (Kp.trans (Kp.lft (by omega)) (Kp.pkL _ _ _ (pack_start V))) (Kp.mvL _ _ _ _ (by omega))
/-- the same but for scratch and the last image -/
def Xt (X X' : St) : Prop := ∀ f c : Nat, f ≠ 70 → f ≠ 71 → f ≠ 76 → (f ≠ 66 ∨ c < 3520) → (f ≠ 0 ∨ ((c < 72 ∨ 75 < c) ∧ c ≠ 83)) → X' f c = X f c
theorem Xt.rf {X : St} : Xt X X := fun _ _ _ _ _ _ _ => rfl
theorem Xt.trans {A B C : St} (h : Xt A B) (k : Xt B C) : Xt A C := fun f c h1 h2 h3 h4 h5 => (k f c h1 h2 h3 h4 h5).trans (h f c h1 h2 h3 h4 h5)
theorem Xw.t {X X' : St} (h : Xw X X') : Xt X X' := fun f c h1 h2 h3 _ h5 => h f c h1 h2 h3 (by omega)
theorem Xt.p {X X' : St} {k : Int} (h : Xt (up2 X 0 31 k) X') : Xp X X' k := ⟨(h 0 31 (by decide) (by decide) (by decide) (by decide) (by decide)).trans up2_at, fun f c h1 h2 h3 h4 h5 => (h f c h1 h2 h3 h4 (by omega)).trans (up2_ne (by omega))⟩
/-- behind a trial all is as it was -/
theorem trial_back {S S2 X X2 : St} {v v' : Int} (h : Xw (up2 (imgP 11 261 S X) 0 83 v) X2) (k : Kp S S2) : takP 11 261 S2 X2 = S ∧ Xt X (up2 X2 0 83 v') := by
  refine ⟨?_, fun f c h1 h2 h3 h4 h5 => ?_⟩
  · funext f c
    by_cases hi : iOff f c < 261
    · rw [takP_in hi, h 66 _ (by decide) (by decide) (by decide) (Or.inl (by decide)), up2_ne (Or.inl (by decide)), imgP_in hi]
    · unfold takP
      rw [if_neg hi]
      exact k f c (by omega)
  · rw [up2_ne (by omega), h f c h1 h2 h3 (by omega), up2_ne (by omega), imgP_off (by omega) (by decide)]
theorem mc_droppedBy {Z : ZT} {d : Nat} {G : GH} {Q : TR → GH → Prop} {m : Nat} {S X : St} {k : Int} (hM : MOK G m) (V : Ok S) (hk : 0 ≤ k ∧ k < S 0 40) (q : ∀ X', Xt X X' → Q (.inl (some (tI (cuts S k).1))) (pM G m S X')) : TC Z (d + 7) mi_X5_droppedBy [tR (some m), tI k] (pM G m S X) Q := by
  refine c_X5_droppedBy hM (mc_keepImage (k := 11) hM (by decide) (r_X5_droppedBy_6 hM (mc_cuts hM V hk (fun X2 hX2 => r_X5_droppedBy_11 hM (mc_takeImage (k := 11) hM (by decide) (r_X5_droppedBy_18 hM ?_))))))
  obtain ⟨t1, t2⟩ := trial_back (v' := 320 * ((11 : Nat) : Int) + 261) hX2 (Kp.cts V hk)
  rw [t1]
  exact q _ t2
theorem cutL_acc {fl : Nat → Bool} : ∀ (r k c : Nat) (e : Int) (S : St), (cutL fl r k c e S).2 65 10 + (cutL fl r k c e S).1 = S 65 10 + e + sumI (fun x => b2i (fl x)) r k := by
  intro r
  induction r with
  | zero => intro k c e S; simp only [cutL, sumI]; omega
  | succ r ih =>
    intro k c e S
    simp only [cutL, sumI]
    split
    · rename_i hk
      rw [ih, hk, b2i_f]; omega
    · rename_i hk
      have hk : fl k = true := by simpa using hk
      have e10 : (reroute S c).2 65 10 = S 65 10 := route_65 (by decide) (by decide)
      split
      · rw [ih, hk, b2i_t, acc_65 (by decide), delRow_off (by decide), e10]; omega
      · rw [ih, hk, b2i_t]
        unfold rerouted
        rw [acc_at, up2_ne (Or.inl (by decide)), up2_ne (Or.inl (by decide)), up2_ne (Or.inl (by decide)), e10]
        omega
theorem cuts_acc {S : St} {k : Int} : (cuts S k).2 65 10 - S 65 10 = loadOf S k - (cuts S k).1 := by
  have := cutL_acc (fl := fun c => decide (S 51 c = k)) (S 0 47).toNat 0 0 0 (lifted (up2 S 0 41 (ior (S 0 41) (ishl 1 k))) (fun c => decide (S 51 c = k)))
  rw [lifted_off (by decide), up2_ne (Or.inl (by decide))] at this
  show (cutL _ _ _ _ _ _).2 65 10 - _ = sumI _ _ _ - (cutL _ _ _ _ _ _).1
  omega
theorem mp_ifCut {Z : ZT} {d : Nat} {G : GH} {Q : TR → GH → Prop} {m : Nat} {S X : St} {k w : Int} (hM : MOK G m) (V : Ok S) (hk : inR k) (hw : inR w) (q : QC G m S X (ifCutA S k w) Q) : TC Z (d + 9) mi_X5_ifCut [tR (some m), tI k, tI w] (pM G m S X) Q := by
  have I := V.1.1
  obtain ⟨⟨i38, i39, i40, i41, i42, i43, i44, i45, i46, i47, i55, i60⟩, irow, iwait, igrp⟩ := id I
  unfold ifCutA at q
  refine c_X5_ifCut hM (mc_noMiddle hM I hk (r_X5_ifCut_10 hM ?_))
  by_cases h1 : midOK S k
  · rw [decide_eq_true h1]
    rw [if_pos h1] at q
    have ref : ¬ (0 ≤ w ∧ w ≤ 2) → TC Z (d + 8) mi_X5_refuse [tR (some m), tI 2] (pM G m S (up2 X 0 31 0)) (KQ Z mi_X5_ifCut (d + 9) 30 33 [some (tR (some m)), some (tI k), some (tI w), none, none, none] [] Q) := fun hn => by
      rw [if_neg hn] at q
      exact mc_refuse hM (r_X5_ifCut_33 hM (q S _ Sg.rfl' Xp.b))
    refine ⟨by decide, fun _ => ⟨hw, fun h => ref (by omega), fun h => ⟨fun h2 => mc_isCut hM (r_X5_ifCut_39 hM ?_), fun h2 => ref (by omega)⟩⟩, fun h => absurd rfl h⟩
    rw [if_pos ⟨by omega, h2⟩] at q
    cases hc : isCutB S k with
    | true =>
      rw [hc, if_pos rfl] at q
      refine ⟨by decide, fun h => absurd h (by decide), fun _ => ⟨hw, fun h3 => ?_, fun h3 => ?_⟩⟩
      · rw [if_neg h3] at q
        exact q S _ Sg.rfl' Xp.a
      · rw [if_pos h3] at q
        exact mc_blockedPairs hM V.1 (fun X1 hX1 => r_X5_ifCut_51 hM (q S _ Sg.rfl' (Xp.s hX1)))
    | false =>
      rw [hc, if_neg (by decide)] at q
      refine ⟨by decide, fun _ => mc_keepImage (k := 11) hM (by decide) (r_X5_ifCut_62 hM (mc_cuts hM V h1 (fun X2 hX2 => r_X5_ifCut_75 hM ⟨hw, fun h3 => ⟨fun h4 => ?_, fun h4 => ?_⟩, fun h3 => ?_⟩))), fun h => absurd rfl h⟩
      · rw [if_neg h3, if_neg h4] at q
        refine mc_blockedPairs hM (V.cts h1).1.1 (fun X3 hX3 => r_X5_ifCut_107 hM (mc_takeImage (k := 11) hM (by decide) (r_X5_ifCut_115 hM ?_)))
        obtain ⟨t1, t2⟩ := trial_back (v' := 320 * ((11 : Nat) : Int) + 261) (hX2.trans hX3.w) (Kp.cts V h1)
        rw [t1]
        exact q S _ Sg.rfl' t2.p
      · rw [if_neg h3, if_pos h4] at q
        refine mc_takeImage (k := 11) hM (by decide) (r_X5_ifCut_115 hM ?_)
        obtain ⟨t1, t2⟩ := trial_back (v' := 320 * ((11 : Nat) : Int) + 261) hX2 (Kp.cts V h1)
        rw [t1]
        rw [← cuts_acc] at q
        exact q S _ Sg.rfl' t2.p
      · rw [if_pos h3] at q
        refine mc_takeImage (k := 11) hM (by decide) (r_X5_ifCut_115 hM ?_)
        obtain ⟨t1, t2⟩ := trial_back (v' := 320 * ((11 : Nat) : Int) + 261) hX2 (Kp.cts V h1)
        rw [t1]
        exact q S _ Sg.rfl' t2.p
  · rw [decide_eq_false h1]
    rw [if_neg h1] at q
    exact ⟨by decide, fun h => absurd h (by decide), fun _ => mc_refuse hM (r_X5_ifCut_18 hM (q S _ Sg.rfl' Xp.b))⟩
theorem mp_leastCut {Z : ZT} {d : Nat} {G : GH} {Q : TR → GH → Prop} {m : Nat} {S X : St} (hM : MOK G m) (V : Ok S) (q : QC G m S X (0, leastA S) Q) : TC Z (d + 8) mi_X5_leastCut [tR (some m)] (pM G m S X) Q := by
  have I := V.1.1
  obtain ⟨⟨i38, i39, i40, i41, i42, i43, i44, i45, i46, i47, i55, i60⟩, irow, iwait, igrp⟩ := id I
  have loop : ∀ (r k : Nat) (best least : Int) (X1 : St) (o : Option Value), k + r = (S 0 40).toNat → -1 ≤ best ∧ best < 9 → 0 ≤ least ∧ least ≤ 18 → Xt (up2 X 0 31 0) X1 → leastL S r k best least = leastA S → TW Z mi_X5_leastCut (d + 8) 11 [some (tR (some m)), some (tI best), some (tI least), some (tI (k : Int)), o] [] (pM G m S X1) Q := by
    intro r
    induction r with
    | zero =>
      intro k best least X1 o hk hb hl hX he
      have he : best = leastA S := he
      have q1 := q S X1 Sg.rfl' hX.p
      rw [← he] at q1
      exact r_X5_leastCut_11 hM ⟨by omega, by omega, fun _ => q1, fun h => by omega⟩
    | succ r ih =>
      intro k best least X1 o hk hb hl hX he
      simp only [leastL] at he
      refine r_X5_leastCut_11 hM ⟨by omega, by omega, fun h => by omega, fun _ => mc_isCut hM (r_X5_leastCut_24 hM ?_)⟩
      cases hc : isCutB S (k : Int) with
      | true =>
        rw [hc, if_pos rfl] at he
        exact ⟨by decide, fun _ => ih (k + 1) best least X1 _ (by omega) hb hl hX he, fun h => absurd h (by decide)⟩
      | false =>
        rw [hc, if_neg (by decide)] at he
        have cr := (V.cts (m := (k : Int)) (by omega)).2.2
        refine ⟨by decide, fun h => absurd rfl h, fun _ => mc_droppedBy hM V (by omega) (fun X2 hX2 => r_X5_leastCut_32 hM ⟨by omega, fun h => ?_, fun h => ⟨by omega, by omega, fun h2 => ?_, fun h2 => ?_⟩⟩)⟩
        · rw [if_pos (Or.inl h)] at he
          exact ih (k + 1) _ _ X2 _ (by omega) (by omega) cr (hX.trans hX2) he
        · rw [if_neg (by omega)] at he
          exact ih (k + 1) _ _ X2 _ (by omega) hb hl (hX.trans hX2) he
        · rw [if_pos (Or.inr (by omega))] at he
          exact ih (k + 1) _ _ X2 _ (by omega) (by omega) cr (hX.trans hX2) he
  exact c_X5_leastCut hM (loop (S 0 40).toNat 0 (-1) 0 _ _ (by omega) (by omega) (by omega) Xt.rf rfl)
theorem mp_ifPacked {Z : ZT} {d : Nat} {G : GH} {Q : TR → GH → Prop} {m : Nat} {S X : St} {w : Int} (hM : MOK G m) (V : Ok S) (hw : inR w) (q : QC G m S X (ifPackedA S w) Q) : TC Z (d + 9) mi_X5_ifPacked [tR (some m), tI w] (pM G m S X) Q := by
  unfold ifPackedA at q
  refine c_X5_ifPacked hM ⟨hw, fun h => ?_, fun h => ⟨fun h2 => ?_, fun h2 => ?_⟩⟩
  · rw [if_neg (by omega)] at q
    exact mc_refuse hM (r_X5_ifPacked_19 hM (q S _ Sg.rfl' Xp.b))
  · rw [if_pos (by omega)] at q
    refine mc_keepImage (k := 11) hM (by decide) (r_X5_ifPacked_26 hM (mc_packs hM V (fun X2 hX2 => r_X5_ifPacked_30 hM ?_)))
    have V2 := V.pks.1
    have I2 := V2.1.1
    have i47 := I2.1.2.2.2.2.2.2.2.2.2.1
    have loop : ∀ (r c : Nat) (e : Int), c + r = ((packs S).2 0 47).toNat → -1 ≤ e ∧ e < 9 → greatL (packs S).2 r c e = greatL (packs S).2 ((packs S).2 0 47).toNat 0 (-1) → TW Z mi_X5_ifPacked (d + 9) 36 [some (tR (some m)), some (tI w), some (tI (packs S).1), some (tI e), some (tI (c : Int))] [] (pM G m (packs S).2 X2) Q := by
      intro r
      induction r with
      | zero =>
        intro c e hc hr he
        have he : e = _ := he
        refine r_X5_ifPacked_36 hM ⟨by omega, by omega, fun _ => mc_takeImage (k := 11) hM (by decide) (r_X5_ifPacked_80 hM ⟨hw, fun h => ?_, fun h => ?_⟩), fun h => by omega⟩
        · rw [if_neg h, ← he] at q
          obtain ⟨t1, t2⟩ := trial_back (v' := 320 * ((11 : Nat) : Int) + 261) hX2 (Kp.pks V)
          rw [t1]
          exact q S _ Sg.rfl' t2.p
        · rw [if_pos h] at q
          obtain ⟨t1, t2⟩ := trial_back (v' := 320 * ((11 : Nat) : Int) + 261) hX2 (Kp.pks V)
          rw [t1]
          exact q S _ Sg.rfl' t2.p
      | succ r ih =>
        intro c e hc hr he
        obtain ⟨r48, r49, r50, r51, -⟩ : RowR (packs S).2 c := I2.2.1 c (by omega)
        simp only [greatL] at he
        refine r_X5_ifPacked_36 hM ⟨by omega, by omega, fun h => by omega, fun _ => ⟨by omega, ?_⟩⟩
        simp only [Int.toNat_natCast]
        refine ⟨by omega, by omega, fun h => ?_, fun h => ?_⟩
        · rw [if_neg (by omega)] at he
          exact ih (c + 1) e (by omega) hr he
        · rw [if_pos (by omega)] at he
          exact ih (c + 1) _ (by omega) r51 he
    exact loop _ 0 (-1) (by omega) (by omega) rfl
  · rw [if_neg (by omega)] at q
    exact mc_refuse hM (r_X5_ifPacked_19 hM (q S _ Sg.rfl' Xp.b))
theorem mp_callsIn {Z : ZT} {d : Nat} {G : GH} {Q : TR → GH → Prop} {m : Nat} {S X : St} {n : Int} (hM : MOK G m) (V : Ok S) (ht : S 0 44 ≤ 9999) (hw : inR n) (q : QC G m S X (callsInA S n) Q) : TC Z (d + 9) mi_X5_callsIn [tR (some m), tI n] (pM G m S X) Q := by
  unfold callsInA at q
  refine c_X5_callsIn hM ⟨hw, fun h => ?_, fun h => ⟨fun h2 => ?_, fun h2 => ?_⟩⟩
  · rw [if_neg (by omega)] at q
    exact mc_refuse hM (r_X5_callsIn_21 hM (q S _ Sg.rfl' Xp.b))
  · rw [if_pos (by omega)] at q
    refine mc_keepImage (k := 11) hM (by decide) (r_X5_callsIn_28 hM ?_)
    have loop : ∀ (r k : Nat) (e : Int) (S1 X2 : St), (k : Int) + r = n → Ok S1 → S1 0 44 + r ≤ 100000 → Kp S S1 → Xw (up2 (imgP 11 261 S (up2 X 0 31 0)) 0 83 (320 * ((11 : Nat) : Int) + 261)) X2 → (ticksL r e S1).2 0 47 = (ticksL n.toNat 0 S).2 0 47 → TW Z mi_X5_callsIn (d + 9) 30 [some (tR (some m)), some (tI n), some (tI (k : Int))] [] (pM G m S1 X2) Q := by
      intro r
      induction r with
      | zero =>
        intro k e S1 X2 hk V1 ht hK hX he
        have he : S1 0 47 = _ := he
        refine r_X5_callsIn_30 hM ⟨by omega, hw, fun _ => mc_takeImage (k := 11) hM (by decide) (r_X5_callsIn_57 hM ?_), fun h => by omega⟩
        obtain ⟨t1, t2⟩ := trial_back (v' := 320 * ((11 : Nat) : Int) + 261) hX hK
        rw [t1, he]
        exact q S _ Sg.rfl' t2.p
      | succ r ih =>
        intro k e S1 X2 hk V1 ht hK hX he
        obtain ⟨a, b, c⟩ := V1.pss (by omega)
        exact r_X5_callsIn_30 hM ⟨by omega, hw, fun h => by omega, fun _ => mc_passes hM V1 (by omega) (fun X3 hX3 => r_X5_callsIn_39 hM (ih (k + 1) (e + (passes S1).1) (passes S1).2 X3 (by omega) a (by omega) (hK.trans (Kp.pss V1 (by omega))) (hX.trans hX3.w) he))⟩
    exact loop n.toNat 0 0 S _ (by omega) V (by omega) Kp.rf (fun _ _ _ _ _ _ => rfl) rfl
  · rw [if_neg (by omega)] at q
    exact mc_refuse hM (r_X5_callsIn_21 hM (q S _ Sg.rfl' Xp.b))
def untilP (s : Int) (b : Bool) (T : St) : Bool := if b = true then idleB T s else decide (waitAt T s = -1)
theorem mc_until {Z : ZT} {d : Nat} {G : GH} {Q : TR → GH → Prop} {m : Nat} {S X : St} {s : Int} {b : Bool} (hM : MOK G m) (V : Ok S) (ht : S 0 44 ≤ 9999) (hs : inR s) (q : ∀ X', Xt X X' → Q (.inl (some (tI (untilL (untilP s b) 200 0 S)))) (pM G m S X')) : TC Z (d + 9) mi_X5_until [tR (some m), tI s, tI (b2i b)] (pM G m S X) Q := by
  obtain ⟨R, hR⟩ : ∃ R, R = untilL (untilP s b) 200 0 S := ⟨_, rfl⟩
  rw [← hR] at q
  refine c_X5_until hM (mc_keepImage (k := 11) hM (by decide) (r_X5_until_6 hM ?_))
  have fin : ∀ (n : Int) (S1 X2 : St), 0 ≤ n ∧ n ≤ 201 → Kp S S1 → Xw (up2 (imgP 11 261 S X) 0 83 (320 * ((11 : Nat) : Int) + 261)) X2 → (if n ≤ 200 then n else -1) = R →
      TC Z (d + 8) mi_X5_takeImage [tR (some m), tI 11] (pM G m S1 X2) (KQ Z mi_X5_until (d + 9) 53 56 [some (tR (some m)), some (tI s), some (tI (b2i b)), some (tI n)] [] Q) := by
    intro n S1 X2 hn hK hX he
    refine mc_takeImage (k := 11) hM (by decide) (r_X5_until_56 hM ?_)
    obtain ⟨t1, t2⟩ := trial_back (v' := 320 * ((11 : Nat) : Int) + 261) hX hK
    rw [t1]
    rw [← he] at q
    refine ⟨by omega, fun h => ?_, fun h => ?_⟩
    · rw [if_pos h] at q; exact q _ t2
    · rw [if_neg h] at q; exact q _ t2
  have loop : ∀ (r : Nat) (n : Int) (S1 X2 : St), n + r = 200 → 0 ≤ n → Ok S1 → S1 0 44 + r + 1 ≤ 100000 → Kp S S1 → Xw (up2 (imgP 11 261 S X) 0 83 (320 * ((11 : Nat) : Int) + 261)) X2 → untilL (untilP s b) r n S1 = R → TW Z mi_X5_until (d + 9) 8 [some (tR (some m)), some (tI s), some (tI (b2i b)), some (tI n)] [] (pM G m S1 X2) Q := by
    intro r
    induction r with
    | zero =>
      intro n S1 X2 hn h0 V1 ht hK hX he
      simp only [untilL] at he
      have I1 := V1.1.1
      have w1 := waitAt_rng (S := S1) (s := s)
      have i55 := I1.1.2.2.2.2.2.2.2.2.2.2.1
      have last : ¬ untilP s b S1 = true → TC Z (d + 8) mi_X5_passes [tR (some m)] (pM G m S1 X2) (KQ Z mi_X5_until (d + 9) 40 43 [some (tR (some m)), some (tI s), some (tI (b2i b)), some (tI n)] [] Q) := fun hp => by
        rw [if_neg hp] at he
        refine mc_passes hM V1 (by omega) (fun X3 hX3 => r_X5_until_43 hM (r_X5_until_8 hM ⟨by omega, fun _ => ?_, fun h => by omega⟩))
        exact fin (n + 1) _ X3 (by omega) (hK.trans (Kp.pss V1 (by omega))) (hX.trans hX3.w) (by rw [if_neg (by omega)]; exact he)
      have stop : untilP s b S1 = true → TC Z (d + 8) mi_X5_takeImage [tR (some m), tI 11] (pM G m S1 X2) (KQ Z mi_X5_until (d + 9) 53 56 [some (tR (some m)), some (tI s), some (tI (b2i b)), some (tI n)] [] Q) := fun hp => by
        rw [if_pos hp] at he
        exact fin n S1 X2 (by omega) hK hX (by rw [if_pos (by omega)]; exact he)
      unfold untilP at last stop
      refine r_X5_until_8 hM ⟨by omega, fun h => by omega, fun _ => ?_⟩
      cases b with
      | false => exact ⟨by decide, fun _ => mc_waiterPlace hM I1 hs (r_X5_until_35 hM ⟨by omega, fun h => stop (by simpa using h), fun h => last (by simpa using h)⟩), fun h => absurd rfl h⟩
      | true =>
        refine ⟨by decide, fun h => absurd h (by decide), fun _ => mc_isIdle hM I1 hs (r_X5_until_24 hM ?_)⟩
        cases hi : idleB S1 s with
        | false => exact ⟨by decide, fun h => absurd rfl h, fun _ => last (by simp [hi])⟩
        | true => exact ⟨by decide, fun _ => stop (by simp [hi]), fun h => absurd h (by decide)⟩
    | succ r ih =>
      intro n S1 X2 hn h0 V1 ht hK hX he
      simp only [untilL] at he
      have I1 := V1.1.1
      have w1 := waitAt_rng (S := S1) (s := s)
      have i55 := I1.1.2.2.2.2.2.2.2.2.2.2.1
      have last : ¬ untilP s b S1 = true → TC Z (d + 8) mi_X5_passes [tR (some m)] (pM G m S1 X2) (KQ Z mi_X5_until (d + 9) 40 43 [some (tR (some m)), some (tI s), some (tI (b2i b)), some (tI n)] [] Q) := fun hp => by
        rw [if_neg hp] at he
        obtain ⟨a, b', c⟩ := V1.pss (by omega)
        exact mc_passes hM V1 (by omega) (fun X3 hX3 => r_X5_until_43 hM (ih (n + 1) (passes S1).2 X3 (by omega) (by omega) a (by omega) (hK.trans (Kp.pss V1 (by omega))) (hX.trans hX3.w) he))
      have stop : untilP s b S1 = true → TC Z (d + 8) mi_X5_takeImage [tR (some m), tI 11] (pM G m S1 X2) (KQ Z mi_X5_until (d + 9) 53 56 [some (tR (some m)), some (tI s), some (tI (b2i b)), some (tI n)] [] Q) := fun hp => by
        rw [if_pos hp] at he
        exact fin n S1 X2 (by omega) hK hX (by rw [if_pos (by omega)]; exact he)
      unfold untilP at last stop
      refine r_X5_until_8 hM ⟨by omega, fun h => by omega, fun _ => ?_⟩
      cases b with
      | false => exact ⟨by decide, fun _ => mc_waiterPlace hM I1 hs (r_X5_until_35 hM ⟨by omega, fun h => stop (by simpa using h), fun h => last (by simpa using h)⟩), fun h => absurd rfl h⟩
      | true =>
        refine ⟨by decide, fun h => absurd h (by decide), fun _ => mc_isIdle hM I1 hs (r_X5_until_24 hM ?_)⟩
        cases hi : idleB S1 s with
        | false => exact ⟨by decide, fun h => absurd rfl h, fun _ => last (by simp [hi])⟩
        | true => exact ⟨by decide, fun _ => stop (by simp [hi]), fun h => absurd h (by decide)⟩
  exact loop 200 0 S _ (by decide) (by decide) V (by omega) Kp.rf (fun _ _ _ _ _ _ => rfl) hR.symm
theorem mp_idleIn {Z : ZT} {d : Nat} {G : GH} {Q : TR → GH → Prop} {m : Nat} {S X : St} {s : Int} (hM : MOK G m) (V : Ok S) (ht : S 0 44 ≤ 9999) (hs : inR s) (q : QC G m S X (idleInA S s) Q) : TC Z (d + 10) mi_X5_idleIn [tR (some m), tI s] (pM G m S X) Q := by
  unfold idleInA at q
  refine c_X5_idleIn hM (mc_noSubscriber hM V.1.1 hs (r_X5_idleIn_10 hM ?_))
  by_cases h1 : subOK S s
  · rw [decide_eq_true h1]
    rw [if_pos h1] at q
    exact ⟨by decide, fun _ => mc_until (b := true) hM V ht hs (fun X1 hX1 => r_X5_idleIn_25 hM (q S X1 Sg.rfl' hX1.p)), fun h => absurd rfl h⟩
  · rw [decide_eq_false h1]
    rw [if_neg h1] at q
    exact ⟨by decide, fun h => absurd h (by decide), fun _ => mc_refuse hM (r_X5_idleIn_18 hM (q S _ Sg.rfl' Xp.b))⟩
theorem mp_servedIn {Z : ZT} {d : Nat} {G : GH} {Q : TR → GH → Prop} {m : Nat} {S X : St} {p : Int} (hM : MOK G m) (V : Ok S) (ht : S 0 44 ≤ 9999) (hp : inR p) (q : QC G m S X (servedInA S p) Q) : TC Z (d + 10) mi_X5_servedIn [tR (some m), tI p] (pM G m S X) Q := by
  have I := V.1.1
  obtain ⟨⟨i38, i39, i40, i41, i42, i43, i44, i45, i46, i47, i55, i60⟩, irow, iwait, igrp⟩ := id I
  unfold servedInA at q
  refine c_X5_servedIn hM ⟨hp, fun h => ?_, fun h => ⟨by omega, fun h2 => ⟨by omega, ?_⟩, fun h2 => ?_⟩⟩
  · rw [if_neg (by omega)] at q
    exact mc_refuse hM (r_X5_servedIn_22 hM (q S _ Sg.rfl' Xp.b))
  · rw [if_pos (by omega)] at q
    obtain ⟨w56, -⟩ := iwait p.toNat (by omega)
    exact mc_until (b := false) hM V ht (by omega) (fun X1 hX1 => r_X5_servedIn_34 hM (q S X1 Sg.rfl' hX1.p))
  · rw [if_neg (by omega)] at q
    exact mc_refuse hM (r_X5_servedIn_22 hM (q S _ Sg.rfl' Xp.b))
theorem mp_blocked {Z : ZT} {d : Nat} {G : GH} {Q : TR → GH → Prop} {m : Nat} {S X : St} (hM : MOK G m) (V : Inv S) (q : QC G m S X (0, blockedPairs S) Q) : TC Z (d + 9) mi_X5_blocked [tR (some m)] (pM G m S X) Q :=
  c_X5_blocked hM (mc_blockedPairs hM V (fun X1 hX1 => r_X5_blocked_9 hM (q S X1 Sg.rfl' (Xp.s hX1))))
theorem mp_needed {Z : ZT} {d : Nat} {G : GH} {Q : TR → GH → Prop} {m : Nat} {S X : St} (hM : MOK G m) (I : Rg S) (q : QC G m S X (0, fewest S) Q) : TC Z (d + 9) mi_X5_needed [tR (some m)] (pM G m S X) Q :=
  c_X5_needed hM (mc_fewest hM I (r_X5_needed_9 hM (q S _ Sg.rfl' Xp.a)))
theorem mp_isFree {Z : ZT} {d : Nat} {G : GH} {Q : TR → GH → Prop} {m : Nat} {S X : St} {b : Bool} (hM : MOK G m) (I : Rg S) (q : QC G m S X (0, isFreeA S b) Q) : TC Z (d + 9) mi_X5_isFree [tR (some m), tI (b2i b)] (pM G m S X) Q := by
  obtain ⟨⟨i38, i39, i40, i41, i42, i43, i44, i45, i46, i47, i55, i60⟩, irow, iwait, igrp⟩ := id I
  have io := inOrd_rng (S := S)
  unfold isFreeA at q
  refine c_X5_isFree hM (mc_inOrder hM I (r_X5_isFree_9 hM ⟨by have := b2i_rng b; omega, fun h => ⟨by omega, by omega, fun h2 => ?_, fun h2 => ?_⟩, fun h => ⟨by omega, by omega, fun h2 => ?_, fun h2 => ?_⟩⟩))
  · have hb : b = false := by cases b <;> simp [b2i] at h ⊢
    rw [hb, if_neg (by decide), decide_eq_false (by omega)] at q; exact q S _ Sg.rfl' Xp.a
  · have hb : b = false := by cases b <;> simp [b2i] at h ⊢
    rw [hb, if_neg (by decide), decide_eq_true (by omega)] at q; exact q S _ Sg.rfl' Xp.a
  · have hb : b = true := by cases b <;> simp [b2i] at h ⊢
    rw [hb, if_pos rfl, decide_eq_false (by omega)] at q; exact q S _ Sg.rfl' Xp.a
  · have hb : b = true := by cases b <;> simp [b2i] at h ⊢
    rw [hb, if_pos rfl, decide_eq_true (by omega)] at q; exact q S _ Sg.rfl' Xp.a
