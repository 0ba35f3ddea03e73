/-! THE EXCHANGE, 17: the waiting list -/
section WAIT
variable {Z : ZT} {d : Nat} {G : GH} {Q : TR → GH → Prop} {e b : Nat} {S S' T T' : St}
theorem CallsE.eq (h : CallsE G e b S) (h0 : ∀ k, k = 38 ∨ k = 39 ∨ k = 47 → S' 0 k = S 0 k) (hr : ∀ f, 48 ≤ f → f ≤ 54 → S' f = S f) : CallsE G e b S' := by
  have ew : ∀ s, callWith S' s = callWith S s := fun s => callWith_congr (h0 47 (by decide)) (fun x _ => ⟨by rw [hr 49 (by decide) (by decide)], by rw [hr 50 (by decide) (by decide)]⟩)
  unfold CallsE CallO at h ⊢
  simp only [ew, h0 47 (by decide), h0 38 (by decide), h0 39 (by decide), callA_eq (hr 48 (by decide) (by decide)), hr 48 (by decide) (by decide), hr 49 (by decide) (by decide), hr 50 (by decide) (by decide), hr 51 (by decide) (by decide), hr 52 (by decide) (by decide), hr 53 (by decide) (by decide), hr 54 (by decide) (by decide)]
  exact h
/-- what belongs to one part is none of the others' -/
theorem ShE.own_no (sh : ShE G e b) {j : Nat} (hj : j = 2 ∨ 4 ≤ j ∧ j ≤ 7) : ¬ Ow G (b + j) e ∧ (∀ i, 1 ≤ i → i ≤ 10 → i ≠ j → ¬ Ow G (b + j) (b + i)) ∧ (∀ i, i = 2 ∨ 4 ≤ i → i ≤ 7 → i ≠ j → ∀ c, c < gn G → Ow G (b + i) c → ¬ Ow G (b + j) c) ∧ (∀ c, gP G c = e → gK G c = 9 → ¬ Ow G (b + j) c) ∧ ∀ c, c < gn G → Ow G (b + j) c → RegE G e b c := by
  have h9 := sh.2.2.2.2.2.2.1
  have le := sh.2.2.1
  have one : ∀ i, 1 ≤ i → i ≤ 10 → i ≠ j → ¬ Ow G (b + j) (b + i) := fun i i1 i2 hij ho => by
    rcases ho with ho | ho
    · omega
    · rw [h9 i i1 i2] at ho; omega
  refine ⟨fun ho => ?_, one, fun i i1 i2 hij c hc hi ho => ?_, fun c c1 c2 ho => ?_, fun c hc ho => ?_⟩
  · rcases ho with ho | ho
    · omega
    · exact (sh.own (j := j) (by omega) ho).1 rfl
  · rcases hi with hi | hi
    · rw [hi] at ho; exact one i (by omega) (by omega) hij ho
    · obtain ⟨o1, o2, o3⟩ := sh.own (j := i) (by omega) hi
      rcases ho with ho | ho
      · exact o2 j (by omega) (by omega) ho
      · omega
  · rcases ho with ho | ho
    · exact sh.k9 (j := j) (by omega) (ho ▸ c2)
    · rw [c1] at ho; omega
  · exact sh.reg hc (Or.inr (Or.inr (Or.inr ⟨j, by omega, by omega, ho⟩)))
/-- only the waiting list changes -/
theorem Rep.wait {G' : GH} (R : Rep Z G e b S S) (m : Md (Ow G (b + 7)) G G') (h0 : ∀ k, k ≠ 55 → S' 0 k = S 0 k) (hr : ∀ f, f ≠ 0 → (f < 56 ∨ 59 < f) → S' f = S f) (w : WaitE Z G' b S') : Rep Z G' e b S' S' ∧ CgE e b G G' ∧ capM G' (b + 2) = capM G (b + 2) := by
  obtain ⟨n1, n2, n3, n4, n5⟩ := R.1.own_no (j := 7) (by decide)
  have fp : FP G (Ow G (b + 7)) := R.1.fp.mono n5
  have se := m.sm R.1.2.1 n1
  have o2 := n3 2 (by decide) (by decide) (by decide)
  refine ⟨⟨R.1.md1 m (fun f => (se.2.2.2.1 f).2), (R.2.1.md1 R.1 m n1 (n2 8 (by decide) (by decide) (by decide))).eq (fun k _ h2 _ => h0 k (by omega)) (hr 65 (by decide) (by decide)), (R.2.2.1.md1 R.1 m (n2 1 (by decide) (by decide) (by decide)) (n2 10 (by decide) (by decide) (by decide)) (fun c hc => n4 _ (R.co hc).2.1 (R.co hc).1)).eq (fun k hk => h0 k (by omega)) (fun f h1 h2 => hr f (by omega) (by omega)), ?_, ?_, ?_, ?_, w⟩, m.mono n5, capM_mv (R.2.2.2.1.choose_spec.choose_spec.1) m (n2 2 (by decide) (by decide) (by decide))⟩
  · exact (R.2.2.2.1.md1 R.1 m (n2 1 (by decide) (by decide) (by decide)) o2 fp).eq (hr 48 (by decide) (by decide)) (h0 47 (by decide)) (hr 51 (by decide) (by decide)) (h0 39 (by decide)) (h0 47 (by decide)) (hr 49 (by decide) (by decide)) (hr 50 (by decide) (by decide))
  · exact (R.tail.1.md1 m (n2 3 (by decide) (by decide) (by decide)) (n3 4 (by decide) (by decide) (by decide)) fp).eq (h0 40 (by decide)) (h0 41 (by decide))
  · exact (R.tail.2.1.md1 m (n3 5 (by decide) (by decide) (by decide)) fp).eq (h0 60 (by decide)) (hr 61 (by decide) (by decide)) (hr 62 (by decide) (by decide))
  · exact (R.tail.2.2.1.md1 m (n3 6 (by decide) (by decide) (by decide)) fp).eq (h0 60 (by decide)) (hr 61 (by decide) (by decide)) (hr 62 (by decide) (by decide)) (hr 63 (by decide) (by decide)) (hr 64 (by decide) (by decide))
/-- a waiter's row behind the last -/
def putWait (S : St) (c g l s : Int) : St := up2 (up2 (up2 (up2 (up2 S 56 (S 0 55).toNat c) 57 (S 0 55).toNat g) 58 (S 0 55).toNat l) 59 (S 0 55).toNat s) 0 55 (S 0 55 + 1)
theorem putWait_0 {c g l s : Int} {k : Nat} (h : k ≠ 55) : putWait S c g l s 0 k = S 0 k := by
  unfold putWait
  rw [up2_ne (Or.inr h), up2_ne (Or.inl (by decide)), up2_ne (Or.inl (by decide)), up2_ne (Or.inl (by decide)), up2_ne (Or.inl (by decide))]
theorem putWait_55 {c g l s : Int} : putWait S c g l s 0 55 = S 0 55 + 1 := by unfold putWait; rw [up2_at]
theorem putWait_off {c g l s : Int} {f x : Nat} (h0 : f ≠ 0) (h : x ≠ (S 0 55).toNat ∨ f < 56 ∨ 59 < f) : putWait S c g l s f x = S f x := by
  unfold putWait
  rw [up2_ne (Or.inl h0), up2_ne (by omega), up2_ne (by omega), up2_ne (by omega), up2_ne (by omega)]
theorem putWait_at {c g l s : Int} : putWait S c g l s 56 (S 0 55).toNat = c ∧ putWait S c g l s 57 (S 0 55).toNat = g ∧ putWait S c g l s 58 (S 0 55).toNat = l ∧ putWait S c g l s 59 (S 0 55).toNat = s := by
  refine ⟨?_, ?_, ?_, ?_⟩ <;> (unfold putWait; simp [up2])
theorem ke10 : KE 10 "java/lang/Object" := ⟨9, _, Or.inl rfl, rfl, Or.inr q3546⟩
theorem getD_app {l : List Nat} {x i : Nat} : (l ++ [x]).getD i 0 = if i < l.length then l.getD i 0 else if i = l.length then x else 0 := by
  rw [List.getD_eq_getElem?_getD, List.getD_eq_getElem?_getD]
  by_cases h : i < l.length
  · rw [if_pos h, List.getElem?_append_left h]
  · rw [if_neg h]
    by_cases h2 : i = l.length
    · rw [if_pos h2, h2, List.getElem?_append_right (Nat.le_refl _)]; simp
    · rw [if_neg h2, List.getElem?_append_right (by omega), List.getElem?_eq_none (by simp; omega)]; rfl
/-- a waiter is queued -/
theorem xc_queue {a : Nat} {c g l s : Int} (h55 : 0 ≤ S 0 55 ∧ S 0 55 < 8) (R : Rep Z G e b S S) (o : gK G a = 10 ∧ gP G a = a ∧ a < gn G ∧ fI G 112 a = c ∧ fI G 113 a = g ∧ fI G 114 a = l ∧ fI G 115 a = s)
    (q : ∀ G', Op0 Z e b 1 10 G G' (putWait S c g l s) → WL G' b = WL G b ++ [a] → Q (.inl none) G') : TC Z (d + 6) mi_X2_queue [tR (some e), tR (some a)] G Q := by
  obtain ⟨w1, w2, w3⟩ := R.2.2.2.2.2.2.2
  have k18 := R.1.2.2.2.2.2.1.2.2.2.2.2.2.1
  obtain ⟨o1, o2, o3, o4, o5, o6, o7⟩ := o
  refine c_X2_queue ⟨R.k, fun v1 hv1 => ⟨b + 7, hv1.symm.trans k18, w1.1, jc_add w1 (by omega) (by rw [o1]; exact ke10) o3 (fun G' m n1 s1 _ A => r_X2_queue_10 ?_)⟩⟩
  obtain ⟨n1', n2', n3', n4', n5'⟩ := R.1.own_no (j := 7) (by decide)
  have fp : FP G (Ow G (b + 7)) := R.1.fp.mono n5'
  have wl : WL G' b = WL G b ++ [a] := A.wl.symm
  obtain ⟨a56, a57, a58, a59⟩ := putWait_at (S := S) (c := c) (g := g) (l := l) (s := s)
  have W : WaitE Z G' b (putWait S c g l s) := by
    unfold WaitE
    rw [wl]
    refine ⟨A, by rw [List.length_append, putWait_55, List.length_cons, List.length_nil]; omega, fun w hw => ?_⟩
    rw [List.length_append, List.length_cons, List.length_nil] at hw
    rw [getD_app]
    by_cases hl : w < (WL G b).length
    · rw [if_pos hl]
      have := (w3 w hl).md m fp
      unfold WaiterO at this ⊢
      rw [putWait_off (f := 56) (by decide) (Or.inl (by omega)), putWait_off (f := 57) (by decide) (Or.inl (by omega)), putWait_off (f := 58) (by decide) (Or.inl (by omega)), putWait_off (f := 59) (by decide) (Or.inl (by omega))]
      exact this
    · have ew : w = (S 0 55).toNat := by omega
      rw [if_neg hl, if_pos (by omega), ew]
      have sm := m.sm o3 (fp.root o3 o2)
      have f := fun i => (sm.2.2.2.1 i).1
      refine ⟨sm.1.trans o1, sm.2.2.1.trans o2, Nat.lt_of_lt_of_le o3 m.1, (f 112).trans (o4.trans a56.symm), (f 113).trans (o5.trans a57.symm), (f 114).trans (o6.trans a58.symm), (f 115).trans (o7.trans a59.symm)⟩
  obtain ⟨R', cg, cm⟩ := R.wait m (fun k hk => putWait_0 hk) (fun f h1 h2 => funext fun x => putWait_off h1 (Or.inr h2)) W
  exact q G' ⟨cg, Rm.same cm n1 s1, R'⟩ wl
theorem getD_erase {l : List Nat} {w i : Nat} (hw : w < l.length) (hi : i < l.length - 1) : (l.eraseIdx w).getD i 0 = l.getD (shf w i) 0 := by
  rw [List.getD_eq_getElem?_getD, List.getD_eq_getElem?_getD, List.getElem?_eraseIdx]
  unfold shf
  split <;> rfl
/-- a waiter leaves the list -/
theorem xc_unwait {w : Nat} (h55 : 0 ≤ S 0 55) (R : Rep Z G e b S S) (hw : w < (S 0 55).toNat)
    (q : ∀ G', OpR Z e b 0 0 G G' (delWait S w) → WL G' b = (WL G b).eraseIdx w → Q (.inl (some (tR (some ((WL G b).getD w 0))))) G') : TC Z (d + 3) mi_J7_remove [tR (some (b + 7)), tI (w : Int)] G Q := by
  obtain ⟨w1, w2, w3⟩ := R.2.2.2.2.2.2.2
  refine jc_removeAt w1 (by omega) (fun x hx => ?_) (fun G' m n1 s1 A => ?_)
  · obtain ⟨i, hi, hx⟩ := List.mem_iff_getElem.mp hx
    have := (w3 i hi).1
    rw [List.getD_eq_getElem?_getD, List.getElem?_eq_getElem hi, Option.getD_some, hx] at this
    rw [this]
    exact ke10
  · obtain ⟨n1', n2', n3', n4', n5'⟩ := R.1.own_no (j := 7) (by decide)
    have fp : FP G (Ow G (b + 7)) := R.1.fp.mono n5'
    have wl : WL G' b = (WL G b).eraseIdx w := A.wl.symm
    have W : WaitE Z G' b (delWait S w) := by
      unfold WaitE
      rw [wl]
      refine ⟨A, by rw [List.length_eraseIdx, if_pos (by omega), delWait_55]; omega, fun i hi => ?_⟩
      rw [List.length_eraseIdx, if_pos (by omega)] at hi
      rw [getD_erase (by omega) hi]
      have := (w3 (shf w i) (by unfold shf; split <;> omega)).md m fp
      unfold WaiterO at this ⊢
      rw [delWait_row (f := 56) (by decide) (by decide) (by omega), delWait_row (f := 57) (by decide) (by decide) (by omega), delWait_row (f := 58) (by decide) (by decide) (by omega), delWait_row (f := 59) (by decide) (by decide) (by omega)]
      exact this
    obtain ⟨R', cg, cm⟩ := R.wait m (fun k hk => delWait_0 hk) (fun f h1 h2 => funext fun x => delWait_off h1 h2) W
    exact q G' ⟨⟨cg, Rm.same cm (by omega) (by omega), R'⟩, fun x hx => by rw [wl] at hx; exact (List.eraseIdx_sublist _ _).mem hx⟩ wl
/-- dialling -/
theorem xc_dial {fr g : Nat} {last : Int} (V : Inv S) (R : Rep Z G e b S S) (E : EnvE Z G) (hfr : (fr : Int) < S 0 38 * S 0 39) (hg : (g : Int) < S 0 60)
    (q : ∀ G', Op0 Z e b 1017 5714 G G' (dials S (fr : Int) (g : Int) last).2 → Q (.inl (some (tI (dials S (fr : Int) (g : Int) last).1))) G') :
    TC Z (d + 13) mi_X2_dial [tR (some e), tI (fr : Int), tI (g : Int), tI last] G Q := by
  have r46 := V.r46
  have r55 := V.r55
  have r60 := V.r60
  have s36 := sub36 V.1
  unfold dials at q
  obtain ⟨gl, g1, g2, g3⟩ := R.2.2.2.2.2.2.1
  have k17 := R.1.2.2.2.2.2.1.2.2.2.2.2.1
  have GO := g3 g (by omega)
  refine c_X2_dial ⟨R.k, xc_isIdle (d := d + 6) V R hfr (r_X2_dial_5 ?_)⟩
  cases hi : idleB S (fr : Int)
  · rw [hi, if_pos rfl] at q
    exact ⟨by decide, fun hn => absurd rfl hn, fun _ => ⟨R.k, xc_refuse (k := 1) (d := d + 11) R (by decide) (fun G' o => r_X2_dial_13 (q G' (o.mono (by omega) (by omega)).1))⟩⟩
  rw [hi, if_neg (by decide)] at q
  refine ⟨by decide, fun _ => ⟨R.k, by rw [R.f46]; omega, fun h3 => fun v3 hv3 => ⟨b + 6, hv3.symm.trans k17, g1.1, jc_get (d := d + 9) g1 (by omega) (r_X2_dial_40 ⟨fun b' hb' => by cases hb'; exact GO.1, R.k, ?_⟩)⟩, fun h3 => ?_⟩, fun hn => absurd hn (by decide)⟩
  rotate_left
  · rw [R.f46] at h3
    rw [if_pos h3] at q
    exact xc_refuse (k := 3) (d := d + 11) R (by decide) (fun G' o => r_X2_dial_29 (q G' (o.mono (by omega) (by omega)).1))
  rw [R.f46] at h3
  rw [if_neg h3] at q
  have mf : memberFor S (fr : Int) (g : Int) = memL S (fr : Int) (g : Int) true (S 63 g).toNat 0 := by unfold memberFor; rw [Int.toNat_natCast]
  have mo := fun (chk : Bool) (h : memL S (fr : Int) (g : Int) chk (S 63 g).toNat 0 ≠ -1) => member_ok V (fr := (fr : Int)) (g := (g : Int)) (chk := chk) ⟨by omega, hg⟩ (by rw [Int.toNat_natCast]; exact h)
  refine xc_member (chk := true) V R E GO (by omega) hfr (fun G1 r m1 n1 s1 h1 hr => r_X2_dial_53 ?_)
  have o1 := OpR.ask R m1 n1 s1
  have R1 := o1.1.2.2
  have E1 := E.ask R m1
  have r36 : -1 ≤ r ∧ r < 36 := by
    by_cases hz : r = -1
    · omega
    · have := (mo true (by rw [← hr]; exact hz)).1
      rw [Int.toNat_natCast, ← hr] at this
      omega
  refine ⟨by omega, fun hz => ⟨R1.k, ?_⟩, fun hz => ⟨R1.k, ?_⟩⟩
  · rw [if_neg (by rw [mf, ← hr]; exact fun z => z hz)] at q
    have GO1 := GO.md m1 (fp9 R.1)
    obtain ⟨q1, q2⟩ := h1 (Or.inl hz)
    refine xc_member (chk := false) V R1 E1 GO1 (by omega) hfr (fun G2 r2 m2 n2 s2 h2 hr2 => r_X2_dial_78 ?_)
    obtain ⟨q3, q4⟩ := h2 (Or.inr rfl)
    have o2 : OpR Z e b 0 0 G1 G2 S := OpR.ask R1 m2 (by omega) (by omega)
    have R2 := o2.1.2.2
    have E2 := E1.ask R1 m2
    have hI : hasIdle S (fr : Int) (g : Int) = decide (r2 ≠ -1) := by unfold hasIdle; rw [Int.toNat_natCast, ← hr2]
    have r236 : -1 ≤ r2 ∧ r2 < 36 := by
      by_cases hz : r2 = -1
      · omega
      · have := (mo false (by rw [← hr2]; exact hz)).1
        rw [Int.toNat_natCast, ← hr2] at this
        omega
    rw [hI] at q
    have k18 := R2.1.2.2.2.2.2.1.2.2.2.2.2.2.1
    obtain ⟨w1, w2, w3⟩ := R2.2.2.2.2.2.2.2
    refine ⟨by omega, fun hz2 => ⟨R2.k, fun v2 hv2 => ⟨b + 7, hv2.symm.trans k18, w1.1, jc_size w1 (r_X2_dial_97 (gn G2) ⟨by omega, fun h8 => ?_, fun h8 => ⟨R2.k, ?_⟩⟩)⟩⟩, fun hz2 => ⟨R2.k, ?_⟩⟩
    · rw [hz2, if_neg (by decide), if_neg (by omega)] at q
      have m3 : Md (fun _ => False) G2 (newG G2 10 0 (gn G2) 4) := Md.rf.new (Nat.le_refl _)
      have k3 : gK (newG G2 10 0 (gn G2) 4) (gn G2) = 10 := gK_new
      have p3 : gP (newG G2 10 0 (gn G2) 4) (gn G2) = gn G2 := gP_new (N := 4)
      have n3 : gn (newG G2 10 0 (gn G2) 4) = gn G2 + 1 := rfl
      have s3 : gs (newG G2 10 0 (gn G2) 4) = gs G2 + 4 := rfl
      rw [R2.f44]
      refine ⟨(m3.k R2.1.2.1).trans R2.k, ?_⟩
      generalize newG G2 10 0 (gn G2) 4 = G3 at *
      have hlt : gn G2 < gn G3 := by omega
      have nl : gn G2 < gn G2 → False := fun h => absurd h (Nat.lt_irrefl _)
      refine c_X10_init ⟨k3, r_X2_dial_123 ⟨e, rfl, ?_, ?_⟩⟩
      · exact (m3.k R2.1.2.1).trans R2.k
      have m4 : Md (fun _ => False) G2 (setI (setI (setI (setI G3 112 (gn G2) (fr : Int)) 113 (gn G2) (g : Int)) 114 (gn G2) last) 115 (gn G2) (S 0 44)) := (((m3.setI hlt nl).setI hlt nl).setI hlt nl).setI hlt nl
      have i115 : fI (setI (setI (setI (setI G3 112 (gn G2) (fr : Int)) 113 (gn G2) (g : Int)) 114 (gn G2) last) 115 (gn G2) (S 0 44)) 115 (gn G2) = S 0 44 := hI_at
      have i114 : fI (setI (setI (setI (setI G3 112 (gn G2) (fr : Int)) 113 (gn G2) (g : Int)) 114 (gn G2) last) 115 (gn G2) (S 0 44)) 114 (gn G2) = last := (hI_ne (Or.inl (by decide))).trans hI_at
      have i113 : fI (setI (setI (setI (setI G3 112 (gn G2) (fr : Int)) 113 (gn G2) (g : Int)) 114 (gn G2) last) 115 (gn G2) (S 0 44)) 113 (gn G2) = (g : Int) := (hI_ne (Or.inl (by decide))).trans ((hI_ne (Or.inl (by decide))).trans hI_at)
      have i112 : fI (setI (setI (setI (setI G3 112 (gn G2) (fr : Int)) 113 (gn G2) (g : Int)) 114 (gn G2) last) 115 (gn G2) (S 0 44)) 112 (gn G2) = (fr : Int) := (hI_ne (Or.inl (by decide))).trans ((hI_ne (Or.inl (by decide))).trans ((hI_ne (Or.inl (by decide))).trans hI_at))
      have n4 : gn (setI (setI (setI (setI G3 112 (gn G2) (fr : Int)) 113 (gn G2) (g : Int)) 114 (gn G2) last) 115 (gn G2) (S 0 44)) = gn G2 + 1 := n3
      have s4 : gs (setI (setI (setI (setI G3 112 (gn G2) (fr : Int)) 113 (gn G2) (g : Int)) 114 (gn G2) last) 115 (gn G2) (S 0 44)) = gs G2 + 4 := s3
      have k4 : gK (setI (setI (setI (setI G3 112 (gn G2) (fr : Int)) 113 (gn G2) (g : Int)) 114 (gn G2) last) 115 (gn G2) (S 0 44)) (gn G2) = 10 := k3
      have p4 : gP (setI (setI (setI (setI G3 112 (gn G2) (fr : Int)) 113 (gn G2) (g : Int)) 114 (gn G2) last) 115 (gn G2) (S 0 44)) (gn G2) = gn G2 := p3
      generalize setI (setI (setI (setI G3 112 (gn G2) (fr : Int)) 113 (gn G2) (g : Int)) 114 (gn G2) last) 115 (gn G2) (S 0 44) = G4 at *
      obtain ⟨R4, wl4, -⟩ := R2.md m4 (fun _ _ _ _ h => h) (fun _ _ h => h)
      have c4 : capM G4 (b + 2) = capM G2 (b + 2) := capM_mv (R2.2.2.2.1.choose_spec.choose_spec.1) m4 id
      refine xc_queue (d := d + 6) (c := (fr : Int)) (g := (g : Int)) (l := last) (s := S 0 44) ⟨by omega, by omega⟩ R4 ⟨k4, p4, by omega, i112, i113, i114, i115⟩ (fun G5 o5 _ => r_X2_dial_126 (q G5 ?_))
      have cgA : CgE e b G2 G4 := m4.mono (fun _ _ h => h.elim)
      refine ⟨(o1.1.1.trans o2.1.1).trans (cgA.trans o5.1), ?_, o5.2.2⟩
      have c2 := (Rm.same (G := G) (n := 0) (s := 0) (capM_mv (R.2.2.2.1.choose_spec.choose_spec.1) (m1.trans m2) (by omega)) (by omega) (by omega)).trans ((Rm.same (n := 1) (s := 4) c4 (by omega) (by omega)).trans o5.2.1)
      unfold Rm at c2 ⊢
      omega
    · rw [hz2, if_neg (by decide), if_pos (by omega)] at q
      exact xc_refuse (k := 5) (d := d + 11) R2 (by decide) (fun G' o => r_X2_dial_107 (q G' ((o1.trans (o2.trans o)).mono (by omega) (by omega)).1))
    · rw [if_pos (decide_eq_true hz2)] at q
      exact xc_refuse (k := 4) (d := d + 11) R2 (by decide) (fun G' o => r_X2_dial_87 (q G' ((o1.trans (o2.trans o)).mono (by omega) (by omega)).1))
  · rw [if_pos (by rw [mf, ← hr]; exact hz)] at q
    obtain ⟨u1, u2⟩ := mo true (by rw [← hr]; exact hz)
    rw [Int.toNat_natCast, ← hr] at u1 u2
    obtain ⟨v1, v2, v3⟩ := memOK_iff.mp u2
    obtain ⟨rn, hrn⟩ : ∃ rn : Nat, r = (rn : Int) := ⟨r.toNat, by omega⟩
    rw [mf, ← hr] at q
    subst hrn
    exact xc_begin (d := d + 1) V R1 E1 hfr u1.2 hi v2 (by omega) (v3 rfl) (fun G2 o2 _ => r_X2_dial_69 (q G2 ((o1.trans o2).mono (by omega) (by omega)).1))
end WAIT
