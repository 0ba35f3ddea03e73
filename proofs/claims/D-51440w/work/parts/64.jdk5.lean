/-! THE JDK, 5: hash maps: a larger row -/
def hdO (r9 r10 : Option Nat) (a : Nat) : Option Nat := match r10 with | none => some a | some _ => r9
def apd (G : GH) (r : Option Nat) (a : Nat) : GH := match r with | none => G | some p => setR G 146 p (some a)
def fnd4 (G : GH) (t2 : Nat) (tl hd : Option Nat) (i : Int) : GH := match tl with | none => G | some p => setQ (setR G 146 p none) t2 i.toNat hd
theorem rz_step {Z : ZT} {d : Nat} {G : GH} {Q : TR → GH → Prop} {a h t2 : Nat} {r1 r9 r10 r11 r12 : Option Nat} {x2 x3 x4 x5 x7 : Int} {o13 : Option Value} (n : NodeK G a) (hr : inR (iand (fI G 143 a) x2)) (k10 : ∀ p, r10 = some p → NodeK G p) (k12 : ∀ p, r12 = some p → NodeK G p) (k9 : ∀ p, r9 = some p → NodeK G p) (k11 : ∀ p, r11 = some p → NodeK G p) (tk : gK G t2 = 109) (b7 : 0 ≤ x7 ∧ 0 ≤ x2 ∧ x7 + x2 < (gL G t2 : Int))
    (go0 : ∀ b, fR G 146 a = some b → iand (fI G 143 a) x2 = 0 → TW Z mi_J1_resize (d + 1) 235 [some (tR (some h)), some (tR r1), some (tI x2), some (tI x3), some (tI x4), some (tI x5), some (tR (some t2)), some (tI x7), some (tR (some b)), some (tR (hdO r9 r10 a)), some (tR (some a)), some (tR r11), some (tR r12), some (tR (some b))] [] (apd G r10 a) Q)
    (go1 : ∀ b, fR G 146 a = some b → ¬ iand (fI G 143 a) x2 = 0 → TW Z mi_J1_resize (d + 1) 235 [some (tR (some h)), some (tR r1), some (tI x2), some (tI x3), some (tI x4), some (tI x5), some (tR (some t2)), some (tI x7), some (tR (some b)), some (tR r9), some (tR r10), some (tR (hdO r11 r12 a)), some (tR (some a)), some (tR (some b))] [] (apd G r12 a) Q)
    (fin0 : fR G 146 a = none → iand (fI G 143 a) x2 = 0 → ∀ o9 o10 o11 o12 o13, TW Z mi_J1_resize (d + 1) 347 [some (tR (some h)), some (tR r1), some (tI x2), some (tI x3), some (tI x4), some (tI x5), some (tR (some t2)), some (tI x7), some (tR none), o9, o10, o11, o12, o13] [] (fnd4 (fnd4 (apd G r10 a) t2 (some a) (hdO r9 r10 a) x7) t2 r12 r11 (x7 + x2)) Q)
    (fin1 : fR G 146 a = none → ¬ iand (fI G 143 a) x2 = 0 → ∀ o9 o10 o11 o12 o13, TW Z mi_J1_resize (d + 1) 347 [some (tR (some h)), some (tR r1), some (tI x2), some (tI x3), some (tI x4), some (tI x5), some (tR (some t2)), some (tI x7), some (tR none), o9, o10, o11, o12, o13] [] (fnd4 (fnd4 (apd G r12 a) t2 r10 r9 x7) t2 (some a) (hdO r11 r12 a) (x7 + x2)) Q) :
    TW Z mi_J1_resize (d + 1) 235 [some (tR (some h)), some (tR r1), some (tI x2), some (tI x3), some (tI x4), some (tI x5), some (tR (some t2)), some (tI x7), some (tR (some a)), some (tR r9), some (tR r10), some (tR r11), some (tR r12), o13] [] G Q := by
  obtain ⟨f1, f2, f3, f4⟩ := nodeK_f n
  have w := (nodeK_w n).2.2.2
  have ke9 : ∀ b, r9 = some b → KE (gK G b) "java/util/HashMap$Node" := fun b hb => ke_nodeK (k9 b hb)
  have ke11 : ∀ b, r11 = some b → KE (gK G b) "java/util/HashMap$Node" := fun b hb => ke_nodeK (k11 b hb)
  have kea := ke_nodeK n
  have w10 : ∀ p, r10 = some p → kwb (gK G p) 146 = true := fun p hp => (nodeK_w (k10 p hp)).2.2.2
  have w12 : ∀ p, r12 = some p → kwb (gK G p) 146 = true := fun p hp => (nodeK_w (k12 p hp)).2.2.2
  have b1 : 0 ≤ x7 + x2 := by omega
  have b2 : x7 < (gL G t2 : Int) := by omega
  have b3 : 0 ≤ x7 := b7.1
  have b4 := b7.2.2
  refine r_J1_resize_235 ⟨a, rfl, f4, fun v3 hv3 => ⟨a, rfl, f1, hr, fun hb => ?_, fun hb => ?_⟩⟩
  · cases r10 <;> cases r12 <;> cases v3 <;> simp only [reduceCtorEq, false_implies, true_implies, and_true, true_and, Option.some.injEq, forall_eq', exists_eq_left', forall_const, implies_true] <;>
      (repeat' apply And.intro) <;> first | exact w | exact tk | exact b1 | exact b2 | exact b3 | exact b4 | exact kea | exact ke9 | exact ke11 | exact w10 _ rfl | exact w12 _ rfl | exact fin1 hv3 hb _ _ _ _ _ | exact go1 _ hv3 hb
  · cases r10 <;> cases r12 <;> cases v3 <;> simp only [reduceCtorEq, false_implies, true_implies, and_true, true_and, Option.some.injEq, forall_eq', exists_eq_left', forall_const, implies_true] <;>
      (repeat' apply And.intro) <;> first | exact w | exact tk | exact b1 | exact b2 | exact b3 | exact b4 | exact kea | exact ke9 | exact ke11 | exact w10 _ rfl | exact w12 _ rfl | exact fin0 hv3 hb _ _ _ _ _ | exact go0 _ hv3 hb
/-- a row of nodes, linked -/
def Lnd (G : GH) : List Nat → Prop
  | [] => True
  | [_] => True
  | a :: b :: l => fR G 146 a = some b ∧ Lnd G (b :: l)
theorem Lnd.congr {G G' : GH} : ∀ l : List Nat, Lnd G l → (∀ a ∈ l, fR G' 146 a = fR G 146 a) → Lnd G' l
  | [], _, _ => trivial
  | [_], _, _ => trivial
  | a :: b :: l, h, k => ⟨(k a List.mem_cons_self).trans h.1, Lnd.congr (b :: l) h.2 (fun c hc => k c (List.mem_cons_of_mem _ hc))⟩
theorem Lnd.app {G G' : GH} {p x : Nat} : ∀ l : List Nat, Lnd G l → l.getLast? = some p → (∀ a ∈ l, a ≠ p → fR G' 146 a = fR G 146 a) → fR G' 146 p = some x → l.Nodup → Lnd G' (l ++ [x])
  | [], _, _, _, _, _ => trivial
  | [a], _, hp, _, hx, _ => by cases hp; exact ⟨hx, trivial⟩
  | a :: b :: l, h, hp, k, hx, nd => by
    obtain ⟨n1, n2⟩ := List.nodup_cons.mp nd
    have hp' : (b :: l).getLast? = some p := by rw [List.getLast?_cons_cons] at hp; exact hp
    have hap : a ≠ p := fun e => n1 (e ▸ List.mem_of_getLast? hp')
    exact ⟨(k a List.mem_cons_self hap).trans h.1, Lnd.app (b :: l) h.2 hp' (fun c hc hne => k c (List.mem_cons_of_mem _ hc) hne) hx n2⟩
theorem Lnd.fin {G G' : GH} : ∀ l : List Nat, Lnd G l → (∀ a ∈ l, some a ≠ l.getLast? → fR G' 146 a = fR G 146 a) → (∀ a, l.getLast? = some a → fR G' 146 a = none) → l.Nodup → Chn G' l.head? l
  | [], _, _, _, _ => rfl
  | [a], _, _, z, _ => ⟨rfl, z a rfl⟩
  | a :: b :: l, h, k, z, nd => by
    obtain ⟨n1, n2⟩ := List.nodup_cons.mp nd
    have e : (a :: b :: l).getLast? = (b :: l).getLast? := List.getLast?_cons_cons
    have hap : some a ≠ (a :: b :: l).getLast? := fun h' => n1 (List.mem_of_getLast? (e ▸ h'.symm))
    refine ⟨rfl, ?_⟩
    rw [(k a List.mem_cons_self hap).trans h.1]
    exact Lnd.fin (b :: l) h.2 (fun c hc hne => k c (List.mem_cons_of_mem _ hc) (by rw [e]; exact hne)) (fun c hc => z c (by rw [e]; exact hc)) n2
/-- what the splitting of one bin changes -/
def RzF (L : List Nat) (t2 i1 i2 : Nat) (G G' : GH) : Prop :=
  Md (fun c => c = t2 ∨ c ∈ L) G G' ∧ gn G' = gn G ∧ gs G' = gs G ∧ (∀ f c, fI G' f c = fI G f c) ∧ (∀ f c, f ≠ 146 → fR G' f c = fR G f c) ∧ (∀ i, i ≠ i1 → i ≠ i2 → aR G' t2 i = aR G t2 i)
theorem RzF.trans {L : List Nat} {t2 i1 i2 : Nat} {A B C : GH} (h : RzF L t2 i1 i2 A B) (k : RzF L t2 i1 i2 B C) : RzF L t2 i1 i2 A C := by
  obtain ⟨a1, a2, a3, a4, a5, a6⟩ := h
  obtain ⟨b1, b2, b3, b4, b5, b6⟩ := k
  exact ⟨a1.trans b1, b2.trans a2, b3.trans a3, fun f c => (b4 f c).trans (a4 f c), fun f c hf => (b5 f c hf).trans (a5 f c hf), fun i p q => (b6 i p q).trans (a6 i p q)⟩
theorem RzF.nx {L : List Nat} {t2 i1 i2 p : Nat} {r : Option Nat} {A G : GH} (h : RzF L t2 i1 i2 A G) (hp : p ∈ L) (hl : p < gn G) : RzF L t2 i1 i2 A (setR G 146 p r) :=
  h.trans ⟨Md.rf.setR hl (fun _ => Or.inr hp), rfl, rfl, fun _ _ => rfl, fun _ _ hf => hR_ne (Or.inl hf), fun _ _ _ => rfl⟩
theorem RzF.row {L : List Nat} {t2 i1 i2 i : Nat} {r : Option Nat} {A G : GH} (h : RzF L t2 i1 i2 A G) (hi : i = i1 ∨ i = i2) (hl : t2 < gn G) : RzF L t2 i1 i2 A (setQ G t2 i r) :=
  h.trans ⟨Md.rf.setQ hl (fun _ => Or.inl rfl), rfl, rfl, fun _ _ => rfl, fun _ _ _ => rfl, fun k p q => hQ_ne (Or.inr (by omega))⟩
/-- the tail of a part gets its end, its head a place -/
theorem fnd4_ok {L l : List Nat} {t2 i1 i2 : Nat} {i : Int} {A G : GH} (F : RzF L t2 i1 i2 A G) (hs : ∀ a ∈ l, a ∈ L ∧ a < gn G) (ht : t2 < gn G) (hi : i.toNat = i1 ∨ i.toNat = i2) (hn : l.Nodup) (h0 : l = [] → aR G t2 i.toNat = none) (hl : Lnd G l) :
    RzF L t2 i1 i2 A (fnd4 G t2 l.getLast? l.head? i) ∧ Chn (fnd4 G t2 l.getLast? l.head? i) (aR (fnd4 G t2 l.getLast? l.head? i) t2 i.toNat) l ∧ (∀ c, c ∉ l → fR (fnd4 G t2 l.getLast? l.head? i) 146 c = fR G 146 c) ∧ (∀ k, k ≠ i.toNat → aR (fnd4 G t2 l.getLast? l.head? i) t2 k = aR G t2 k) := by
  cases hg : l.getLast? with
  | none =>
    have e : l = [] := List.getLast?_eq_none_iff.mp hg
    subst e
    exact ⟨F, h0 rfl, fun _ _ => rfl, fun _ _ => rfl⟩
  | some p =>
    have hp := List.mem_of_getLast? hg
    refine ⟨(F.nx (hs p hp).1 (hs p hp).2).row hi ht, ?_, fun c hc => hR_ne (Or.inr (fun e => hc (e ▸ hp))), fun k hk => hQ_ne (Or.inr hk)⟩
    have e : aR (fnd4 G t2 (some p) l.head? i) t2 i.toNat = l.head? := hQ_at
    rw [e]
    refine Lnd.fin l hl (fun a _ hne => hR_ne (Or.inr (fun e => hne (by rw [e, hg])))) (fun a ha => ?_) hn
    rw [hg] at ha
    cases ha
    exact hR_at
theorem hdO_eq {l : List Nat} {a : Nat} : hdO l.head? l.getLast? a = (l ++ [a]).head? := by
  cases l with
  | nil => rfl
  | cons b l => simp [hdO, List.getLast?_cons]
/-- a node is laid behind a part -/
theorem apd_ok {L l : List Nat} {t2 i1 i2 a : Nat} {A G : GH} (F : RzF L t2 i1 i2 A G) (hs : ∀ a ∈ l, a ∈ L ∧ a < gn G) (hn : l.Nodup) (hl : Lnd G l) :
    RzF L t2 i1 i2 A (apd G l.getLast? a) ∧ Lnd (apd G l.getLast? a) (l ++ [a]) ∧ (∀ c, c ∉ l → fR (apd G l.getLast? a) 146 c = fR G 146 c) ∧ ∀ k, aR (apd G l.getLast? a) t2 k = aR G t2 k := by
  cases hg : l.getLast? with
  | none =>
    have e : l = [] := List.getLast?_eq_none_iff.mp hg
    subst e
    exact ⟨F, trivial, fun _ _ => rfl, fun _ => rfl⟩
  | some p =>
    have hp := List.mem_of_getLast? hg
    exact ⟨F.nx (hs p hp).1 (hs p hp).2, Lnd.app l hl hg (fun c _ hne => hR_ne (Or.inr hne)) hR_at hn, fun c hc => hR_ne (Or.inr (fun e => hc (e ▸ hp))), fun _ => rfl⟩
theorem rz_in {Z : ZT} {d : Nat} {Q : TR → GH → Prop} {h t2 j cap : Nat} {L : List Nat} {lo : Nat → Bool} {A : GH} {r1 : Option Nat} {x3 x4 x5 : Int} (nd : L.Nodup) (hL : ∀ a ∈ L, NodeK A a ∧ a < gn A ∧ inR (iand (fI A 143 a) (cap : Int)) ∧ (iand (fI A 143 a) (cap : Int) = 0 ↔ lo a = true)) (tk : gK A t2 = 109) (tl : gL A t2 = 2 * cap) (ht : t2 < gn A) (hj : j < cap) (z1 : aR A t2 j = none) (z2 : aR A t2 (j + cap) = none)
    (q : ∀ G', RzF L t2 j (j + cap) A G' → Chn G' (aR G' t2 j) (L.filter lo) → Chn G' (aR G' t2 (j + cap)) (L.filter (fun a => !lo a)) → ∀ o9 o10 o11 o12 o13, TW Z mi_J1_resize (d + 1) 347 [some (tR (some h)), some (tR r1), some (tI (cap : Int)), some (tI x3), some (tI x4), some (tI x5), some (tR (some t2)), some (tI (j : Int)), some (tR none), o9, o10, o11, o12, o13] [] G' Q) :
    ∀ (rest pre : List Nat) (e : Nat) (G : GH) (o13 : Option Value), L = pre ++ e :: rest → RzF L t2 j (j + cap) A G → (∀ k, aR G t2 k = aR A t2 k) → Lnd G (pre.filter lo) → Lnd G (pre.filter (fun a => !lo a)) → Chn G (some e) (e :: rest) →
      TW Z mi_J1_resize (d + 1) 235 [some (tR (some h)), some (tR r1), some (tI (cap : Int)), some (tI x3), some (tI x4), some (tI x5), some (tR (some t2)), some (tI (j : Int)), some (tR (some e)), some (tR (pre.filter lo).head?), some (tR (pre.filter lo).getLast?), some (tR (pre.filter (fun a => !lo a)).head?), some (tR (pre.filter (fun a => !lo a)).getLast?), o13] [] G Q := by
  intro rest
  induction rest with
  | nil =>
    intro pre e G o13 hE F hR l0 l1 hC
    have sub : ∀ a ∈ pre ++ [e], a ∈ L := fun a ha => by rw [hE]; exact ha
    have nd' : (pre ++ [e]).Nodup := by rw [← hE]; exact nd
    have hn : fR G 146 e = none := hC.2
    have he := hL e (sub e (List.mem_append.mpr (Or.inr List.mem_cons_self)))
    have kk : ∀ a ∈ L, NodeK G a := fun a ha => by unfold NodeK; rw [F.1.k (hL a ha).2.1]; exact (hL a ha).1
    have glt : ∀ a ∈ L, a < gn G := fun a ha => by rw [F.2.1]; exact (hL a ha).2.1
    have ht' : t2 < gn G := by rw [F.2.1]; exact ht
    have s0 : ∀ a ∈ pre.filter lo, a ∈ L ∧ a < gn G := fun a ha => by
      have := sub a (List.mem_append.mpr (Or.inl (List.mem_filter.mp ha).1)); exact ⟨this, glt a this⟩
    have s1 : ∀ a ∈ pre.filter (fun a => !lo a), a ∈ L ∧ a < gn G := fun a ha => by
      have := sub a (List.mem_append.mpr (Or.inl (List.mem_filter.mp ha).1)); exact ⟨this, glt a this⟩
    have ndp : pre.Nodup := (List.nodup_append.mp nd').1
    have n0 := ndp.filter lo
    have n1 := ndp.filter (fun a => !lo a)
    have enp : e ∉ pre := fun h' => (List.nodup_append.mp nd').2.2 e h' e List.mem_cons_self rfl
    have i1 : ((j : Int)).toNat = j := Int.toNat_natCast j
    have i2 : ((j : Int) + (cap : Int)).toNat = j + cap := by omega
    have fe : fI G 143 e = fI A 143 e := F.2.2.2.1 143 e
    refine rz_step (kk e (sub e (List.mem_append.mpr (Or.inr List.mem_cons_self)))) (by rw [fe]; exact he.2.2.1) (fun p hp => kk p (s0 p (List.mem_of_getLast? hp)).1) (fun p hp => kk p (s1 p (List.mem_of_getLast? hp)).1) (fun p hp => kk p (s0 p (List.mem_of_head? hp)).1) (fun p hp => kk p (s1 p (List.mem_of_head? hp)).1) ((F.1.k ht).trans tk) ⟨by omega, by omega, by rw [F.1.l ht, tl]; omega⟩ (fun b hb _ => by rw [hn] at hb; cases hb) (fun b hb _ => by rw [hn] at hb; cases hb) (fun _ hb => ?_) (fun _ hb => ?_)
    · rw [fe] at hb
      have lt := he.2.2.2.mp hb
      have eL0 : L.filter lo = pre.filter lo ++ [e] := by rw [hE, List.filter_append]; simp [lt]
      have eL1 : L.filter (fun a => !lo a) = pre.filter (fun a => !lo a) := by rw [hE, List.filter_append]; simp [lt]
      obtain ⟨F1, L1, k1, r1'⟩ := apd_ok (a := e) F s0 n0 l0
      rw [hdO_eq]
      have eg : (pre.filter lo ++ [e]).getLast? = some e := by simp
      generalize apd G (pre.filter lo).getLast? e = G1 at *
      have n0' : (pre.filter lo ++ [e]).Nodup := by rw [← eL0]; exact nd.filter lo
      have g1 := fnd4_ok (i := (j : Int)) F1 (l := pre.filter lo ++ [e]) (fun a ha => by
        rw [← eL0] at ha
        have := (List.mem_filter.mp ha).1
        exact ⟨this, by rw [F1.2.1, ← F.2.1]; exact glt a this⟩) (by rw [F1.2.1, ← F.2.1]; exact ht') (Or.inl i1) n0' (fun h' => absurd h' (by simp)) L1
      rw [eg] at g1
      obtain ⟨F2, C2, k2, r2⟩ := g1
      have p1 : ∀ a ∈ pre.filter (fun a => !lo a), a ∉ pre.filter lo ++ [e] := fun a ha h' => by
        have h1 := (List.mem_filter.mp ha).2
        rw [← eL0] at h'
        have h2 := (List.mem_filter.mp h').2
        simp [h2] at h1
      have l1' : Lnd (fnd4 G1 t2 (some e) (pre.filter lo ++ [e]).head? (j : Int)) (pre.filter (fun a => !lo a)) := Lnd.congr _ l1 (fun a ha => (k2 a (p1 a ha)).trans (k1 a (fun h' => p1 a ha (List.mem_append.mpr (Or.inl h')))))
      generalize fnd4 G1 t2 (some e) (pre.filter lo ++ [e]).head? (j : Int) = G2 at *
      have g2 := fnd4_ok (i := (j : Int) + (cap : Int)) F2 (l := pre.filter (fun a => !lo a)) (fun a ha => ⟨(s1 a ha).1, by rw [F2.2.1, ← F.2.1]; exact (s1 a ha).2⟩) (by rw [F2.2.1, ← F.2.1]; exact ht') (Or.inr i2) n1 (fun _ => by rw [i2, r2 _ (by omega), r1', hR]; exact z2) l1'
      obtain ⟨F3, C3, k3, r3⟩ := g2
      generalize fnd4 G2 t2 (pre.filter (fun a => !lo a)).getLast? (pre.filter (fun a => !lo a)).head? ((j : Int) + (cap : Int)) = G3 at *
      rw [i1] at C2
      rw [i2] at C3
      refine q G3 F3 ?_ (by rw [eL1]; exact C3)
      rw [eL0, r3 j (by omega)]
      exact Chn.congr _ _ C2 (fun a ha => k3 a (fun h' => p1 a h' ha))
    · rw [fe] at hb
      have lt : lo e = false := by
        cases hlo : lo e
        · rfl
        · exact absurd (he.2.2.2.mpr hlo) hb
      have eL1 : L.filter (fun a => !lo a) = pre.filter (fun a => !lo a) ++ [e] := by rw [hE, List.filter_append]; simp [lt]
      have eL0 : L.filter lo = pre.filter lo := by rw [hE, List.filter_append]; simp [lt]
      obtain ⟨F1, L1, k1, r1'⟩ := apd_ok (a := e) F s1 n1 l1
      rw [hdO_eq]
      have eg : (pre.filter (fun a => !lo a) ++ [e]).getLast? = some e := by simp
      generalize apd G (pre.filter (fun a => !lo a)).getLast? e = G1 at *
      have n1' : (pre.filter (fun a => !lo a) ++ [e]).Nodup := by rw [← eL1]; exact nd.filter _
      have p1 : ∀ a ∈ pre.filter lo, a ∉ pre.filter (fun a => !lo a) ++ [e] := fun a ha h' => by
        have h1 := (List.mem_filter.mp ha).2
        rw [← eL1] at h'
        have h2 := (List.mem_filter.mp h').2
        simp [h1] at h2
      have l0' : Lnd G1 (pre.filter lo) := Lnd.congr _ l0 (fun a ha => k1 a (fun h' => p1 a ha (List.mem_append.mpr (Or.inl h'))))
      have g1 := fnd4_ok (i := (j : Int)) F1 (l := pre.filter lo) (fun a ha => ⟨(s0 a ha).1, by rw [F1.2.1, ← F.2.1]; exact (s0 a ha).2⟩) (by rw [F1.2.1, ← F.2.1]; exact ht') (Or.inl i1) n0 (fun _ => by rw [i1, r1', hR]; exact z1) l0'
      obtain ⟨F2, C2, k2, r2⟩ := g1
      have L1' : Lnd (fnd4 G1 t2 (pre.filter lo).getLast? (pre.filter lo).head? (j : Int)) (pre.filter (fun a => !lo a) ++ [e]) := Lnd.congr _ L1 (fun a ha => k2 a (fun h' => p1 a h' ha))
      generalize fnd4 G1 t2 (pre.filter lo).getLast? (pre.filter lo).head? (j : Int) = G2 at *
      have g2 := fnd4_ok (i := (j : Int) + (cap : Int)) F2 (l := pre.filter (fun a => !lo a) ++ [e]) (fun a ha => by
        rw [← eL1] at ha
        have := (List.mem_filter.mp ha).1
        exact ⟨this, by rw [F2.2.1, ← F.2.1]; exact glt a this⟩) (by rw [F2.2.1, ← F.2.1]; exact ht') (Or.inr i2) n1' (fun h' => absurd h' (by simp)) L1'
      rw [eg] at g2
      obtain ⟨F3, C3, k3, r3⟩ := g2
      generalize fnd4 G2 t2 (some e) (pre.filter (fun a => !lo a) ++ [e]).head? ((j : Int) + (cap : Int)) = G3 at *
      rw [i1] at C2
      rw [i2] at C3 r3
      refine q G3 F3 ?_ (by rw [eL1]; exact C3)
      rw [eL0, r3 j (by omega)]
      exact Chn.congr _ _ C2 (fun a ha => k3 a (p1 a ha))
  | cons b rest ih =>
    intro pre e G o13 hE F hR l0 l1 hC
    have hE' : L = (pre ++ [e]) ++ b :: rest := by rw [hE]; simp
    have sub : ∀ a ∈ pre ++ [e], a ∈ L := fun a ha => by rw [hE']; exact List.mem_append.mpr (Or.inl ha)
    have nd' : (pre ++ [e]).Nodup := by rw [hE'] at nd; exact (List.nodup_append.mp nd).1
    have disj : ∀ a ∈ b :: rest, a ∉ pre := fun a ha h' => by
      rw [hE'] at nd
      exact (List.nodup_append.mp nd).2.2 a (List.mem_append.mpr (Or.inl h')) a ha rfl
    have hn : fR G 146 e = some b := hC.2.1
    have he := hL e (sub e (List.mem_append.mpr (Or.inr List.mem_cons_self)))
    have kk : ∀ a ∈ L, NodeK G a := fun a ha => by unfold NodeK; rw [F.1.k (hL a ha).2.1]; exact (hL a ha).1
    have glt : ∀ a ∈ L, a < gn G := fun a ha => by rw [F.2.1]; exact (hL a ha).2.1
    have ht' : t2 < gn G := by rw [F.2.1]; exact ht
    have s0 : ∀ a ∈ pre.filter lo, a ∈ L ∧ a < gn G := fun a ha => by
      have := sub a (List.mem_append.mpr (Or.inl (List.mem_filter.mp ha).1)); exact ⟨this, glt a this⟩
    have s1 : ∀ a ∈ pre.filter (fun a => !lo a), a ∈ L ∧ a < gn G := fun a ha => by
      have := sub a (List.mem_append.mpr (Or.inl (List.mem_filter.mp ha).1)); exact ⟨this, glt a this⟩
    have ndp : pre.Nodup := (List.nodup_append.mp nd').1
    have n0 := ndp.filter lo
    have n1 := ndp.filter (fun a => !lo a)
    have fe : fI G 143 e = fI A 143 e := F.2.2.2.1 143 e
    refine rz_step (kk e (sub e (List.mem_append.mpr (Or.inr List.mem_cons_self)))) (by rw [fe]; exact he.2.2.1) (fun p hp => kk p (s0 p (List.mem_of_getLast? hp)).1) (fun p hp => kk p (s1 p (List.mem_of_getLast? hp)).1) (fun p hp => kk p (s0 p (List.mem_of_head? hp)).1) (fun p hp => kk p (s1 p (List.mem_of_head? hp)).1) ((F.1.k ht).trans tk) ⟨by omega, by omega, by rw [F.1.l ht, tl]; omega⟩ (fun b' hb' hb => ?_) (fun b' hb' hb => ?_) (fun h' => by rw [hn] at h'; cases h') (fun h' => by rw [hn] at h'; cases h')
    · rw [fe] at hb
      have eb : b' = b := by rw [hn] at hb'; cases hb'; rfl
      subst eb
      have lt := he.2.2.2.mp hb
      have e0 : (pre ++ [e]).filter lo = pre.filter lo ++ [e] := by rw [List.filter_append]; simp [lt]
      have e1 : (pre ++ [e]).filter (fun a => !lo a) = pre.filter (fun a => !lo a) := by rw [List.filter_append]; simp [lt]
      obtain ⟨F1, L1, k1, r1'⟩ := apd_ok (a := e) F s0 n0 l0
      rw [hdO_eq]
      have eg : (pre.filter lo ++ [e]).getLast? = some e := by simp
      have := ih (pre ++ [e]) b' (apd G (pre.filter lo).getLast? e) (some (tR (some b'))) hE' F1 (fun k => (r1' k).trans (hR k)) (by rw [e0]; exact L1) (by rw [e1]; exact Lnd.congr _ l1 (fun a ha => k1 a (fun h' => by
        have h1 := (List.mem_filter.mp ha).2
        have h2 := (List.mem_filter.mp h').2
        simp [h2] at h1))) (Chn.congr _ _ (by rw [← hn]; exact hC.2) (fun a ha => k1 a (fun h' => disj a ha (List.mem_filter.mp h').1)))
      rw [e0, e1, eg] at this
      exact this
    · rw [fe] at hb
      have eb : b' = b := by rw [hn] at hb'; cases hb'; rfl
      subst eb
      have lt : lo e = false := by
        cases hlo : lo e
        · rfl
        · exact absurd (he.2.2.2.mpr hlo) hb
      have e1 : (pre ++ [e]).filter (fun a => !lo a) = pre.filter (fun a => !lo a) ++ [e] := by rw [List.filter_append]; simp [lt]
      have e0 : (pre ++ [e]).filter lo = pre.filter lo := by rw [List.filter_append]; simp [lt]
      obtain ⟨F1, L1, k1, r1'⟩ := apd_ok (a := e) F s1 n1 l1
      rw [hdO_eq]
      have eg : (pre.filter (fun a => !lo a) ++ [e]).getLast? = some e := by simp
      have := ih (pre ++ [e]) b' (apd G (pre.filter (fun a => !lo a)).getLast? e) (some (tR (some b'))) hE' F1 (fun k => (r1' k).trans (hR k)) (by rw [e0]; exact Lnd.congr _ l0 (fun a ha => k1 a (fun h' => by
        have h1 := (List.mem_filter.mp ha).2
        have h2 := (List.mem_filter.mp h').2
        simp [h1] at h2))) (by rw [e1]; exact L1) (Chn.congr _ _ (by rw [← hn]; exact hC.2) (fun a ha => k1 a (fun h' => disj a ha (List.mem_filter.mp h').1)))
      rw [e0, e1, eg] at this
      exact this
