/-! THE EXCHANGE, 5: paths -/
section EXP5
variable {Z : ZT} {d : Nat} {G : GH} {Q : TR → GH → Prop} {e b : Nat} {S T : St}
/-- new Path(middle) -/
theorem jx_pathOpen {a : Nat} {x : Int} (hk : gK G a = 8) (pa : gP G a = a) (ha : a < gn G) (hz : Fz G) (q : ∀ G', Md (fun c => c = a) G G' → gn G' = gn G + 2 → gs G' = gs G + 4 → PathO Z G' a x (-1) (-1) [] → Q (.inl none) G') : TC Z (d + 4) mi_X8_init [tR (some a), tI x] G Q := by
  have m0 : Md (fun c => c = a) G (newG G 15 0 (gn G) 3) := Md.rf.new (Nat.le_refl _)
  have k0 : gK (newG G 15 0 (gn G) 3) (gn G) = 15 := gK_new
  have n0 : gn (newG G 15 0 (gn G) 3) = gn G + 1 := rfl
  have s0 : gs (newG G 15 0 (gn G) 3) = gs G + 3 := rfl
  have p0 : gP (newG G 15 0 (gn G) 3) (gn G) = gn G := gP_new (N := 3)
  have z0 : fI (newG G 15 0 (gn G) 3) 133 (gn G) = 0 := ((hz (gn G) (Nat.le_refl _)).2.1 133).1
  refine c_X8_init (gn G) ?_
  generalize newG G 15 0 (gn G) 3 = G0 at *
  refine c_J7_init_2 (c_J6_init (c_J2_init (r_J6_init_4 ⟨k0, r_J7_init_2_4 (gn G) ⟨by decide, fun h => absurd h (by decide), fun _ => ⟨by decide, ?_, ?_⟩⟩⟩)))
  · show gK (newG (setI G0 131 (gn G) 0) 107 1 (gn G) 1) (gn G) = 15
    rw [gK_old (by show gn G ≠ gn G0; omega)]
    exact k0
  · have m1 : Md (fun c => c = a) G (setI G0 131 (gn G) 0) := m0.setI (by omega) (fun h => absurd h (Nat.lt_irrefl _))
    have m2 : Md (fun c => c = a) G (newG (setI G0 131 (gn G) 0) 107 1 (gn G) 1) := m1.new (by show gn G ≤ gn G0; omega)
    have m3 : Md (fun c => c = a) G (setR (newG (setI G0 131 (gn G) 0) 107 1 (gn G) 1) 132 (gn G) (some (gn (setI G0 131 (gn G) 0)))) := m2.setR (by show gn G < gn G0 + 1; omega) (fun h => absurd h (Nat.lt_irrefl _))
    have k3 : gK (setR (newG (setI G0 131 (gn G) 0) 107 1 (gn G) 1) 132 (gn G) (some (gn (setI G0 131 (gn G) 0)))) (gn G) = 15 := (gK_old (G := setI G0 131 (gn G) 0) (N := 1) (by show gn G ≠ gn G0; omega)).trans k0
    have p3 : gP (setR (newG (setI G0 131 (gn G) 0) 107 1 (gn G) 1) 132 (gn G) (some (gn (setI G0 131 (gn G) 0)))) (gn G) = gn G := (gP_old (G := setI G0 131 (gn G) 0) (N := 1) (by show gn G ≠ gn G0; omega)).trans p0
    have z3 : fI (setR (newG (setI G0 131 (gn G) 0) 107 1 (gn G) 1) 132 (gn G) (some (gn (setI G0 131 (gn G) 0)))) 133 (gn G) = 0 := by
      show fI (setI G0 131 (gn G) 0) 133 (gn G) = 0
      rw [hI_ne (Or.inl (by decide))]
      exact z0
    have n3 : gn (setR (newG (setI G0 131 (gn G) 0) 107 1 (gn G) 1) 132 (gn G) (some (gn (setI G0 131 (gn G) 0)))) = gn G + 2 := by show gn G0 + 1 = _; omega
    have s3 : gs (setR (newG (setI G0 131 (gn G) 0) 107 1 (gn G) 1) 132 (gn G) (some (gn (setI G0 131 (gn G) 0)))) = gs G + 4 := by show gs G0 + 1 = _; omega
    refine r_X8_init_12 ⟨a, rfl, ?_⟩
    have e : setR (newG (setI G0 131 (gn G) 0) 107 (1 : Int).toNat (gn G) (1 : Int).toNat) 132 (gn G) (some (gn (setI G0 131 (gn G) 0))) = setR (newG (setI G0 131 (gn G) 0) 107 1 (gn G) 1) 132 (gn G) (some (gn (setI G0 131 (gn G) 0))) := rfl
    rw [e]
    generalize setR (newG (setI G0 131 (gn G) 0) 107 1 (gn G) 1) 132 (gn G) (some (gn (setI G0 131 (gn G) 0))) = G3 at *
    refine jx_pathNew (l := []) ((m3.k ha).trans hk) ((m3.p ha).trans pa) (by omega) (by omega) p3 ⟨k3, by omega, z3, fun h => absurd rfl h⟩ (fun G4 m4 n4 s4 P4 => r_X8_init_15 (q G4 (m3.trans m4) (by omega) (by omega) P4))
/-- what path answers -/
def PathR (Z : ZT) (G0 : GH) (b : Nat) (S : St) (i j rule : Int) (chains : Bool) (low : Int) (G : GH) (r : Option Nat) : Prop :=
  if hunted S i j rule low = -1 then (if chains = true then BestO Z G0 b S G r (chain S i j low) else r = none) else ∃ a, r = some a ∧ PathO Z G a (hunted S i j rule low) (-1) (-1) []
theorem xc_path2 {i j : Nat} {w rule low : Int} {ch : Bool} (V : Inv S) (R : Rep Z G e b S S) (hE : EnvA Z G) (ow : OW G) (hz : Fz G) (hi : (i : Int) < S 0 38) (hj : (j : Int) < S 0 38) (hw : SetIs S w low) (hr : 0 ≤ rule ∧ rule ≤ 2)
    (qq : ∀ G' r, Md (fun c => c = b + 9) G G' → gn G' ≤ gn G + 486 → gs G' ≤ gs G + 2754 → (r = none → gn G' = gn G ∧ gs G' = gs G) → PathR Z G b S (i : Int) (j : Int) rule ch low G' r → Q (.inl (some (tR r))) G') :
    TC Z (d + 9) mi_X2_path_2 [tR (some e), tI (i : Int), tI (j : Int), tI w, tI rule, tI ((ch.toNat : Nat) : Int)] G Q := by
  have r38 := V.r38
  have r40 := V.r40
  refine c_X2_path_2 ⟨R.k, xc_hunted V R (by omega) (by omega) hw hr (fun G1 K1 => r_X2_path_2_9 (gn G1) ?_)⟩
  have R1 := R.qk K1
  have e1 := K1.2.1
  have e2 := K1.2.2
  have hh : -1 ≤ hunted S (i : Int) (j : Int) rule low ∧ hunted S (i : Int) (j : Int) rule low < S 0 40 := hunted_rng V.1
  refine ⟨by omega, fun hn => ⟨by cases ch <;> decide, fun hc => ?_, fun hc => ⟨R1.k, ?_⟩⟩, fun hn => ?_⟩
  · have hc' : ch = false := by cases ch <;> first | rfl | cases hc
    refine qq G1 none K1.1 (by omega) (by omega) (fun _ => ⟨e1, e2⟩) ?_
    unfold PathR
    rw [if_pos hn, hc', if_neg (by decide)]
  · have hc' : ch = true := by cases ch <;> first | rfl | exact absurd rfl hc
    refine xc_chained V R1 (hE.md K1.1) (K1.1.ow ow) (K1.1.fz hz) hi hj hw ((hunted_iff V.1).mp hn) (fun G2 r m2 n2 s2 h2 B => r_X2_path_2_39 (qq G2 r (K1.1.trans m2) (by omega) (by omega) (fun z => by have := h2 z; omega) ?_))
    have : callA G1 b S = callA G b S := funext (R.qA K1)
    unfold PathR
    rw [if_pos hn, hc', if_pos rfl]
    unfold BestO at B ⊢
    rw [this] at B
    exact B
  · have mn : Md (fun _ => False) G1 (newG G1 8 0 (gn G1) 4) := Md.rf.new (Nat.le_refl _)
    have kn : gK (newG G1 8 0 (gn G1) 4) (gn G1) = 8 := gK_new
    have pn : gP (newG G1 8 0 (gn G1) 4) (gn G1) = gn G1 := gP_new (N := 4)
    have nn : gn (newG G1 8 0 (gn G1) 4) = gn G1 + 1 := rfl
    have sn : gs (newG G1 8 0 (gn G1) 4) = gs G1 + 4 := rfl
    have zn := mn.fz (K1.1.fz hz)
    generalize newG G1 8 0 (gn G1) 4 = G2 at *
    refine jx_pathOpen kn pn (by omega) zn (fun G3 m3 n3 s3 P => r_X2_path_2_26 (qq G3 (some (gn G1)) ?_ (by omega) (by omega) (fun z => by cases z) (by unfold PathR; rw [if_neg hn]; exact ⟨gn G1, rfl, P⟩)))
    exact (K1.1.trans' mn (fun c _ h => h.elim)).trans' m3 (fun c hc h => by omega)
theorem PathR.q1 {G1 G2 : GH} {i j rule low : Int} {ch : Bool} {r : Option Nat} (R : Rep Z G e b S S) (K : Md (fun c => c = b + 9) G G1) (h : PathR Z G1 b S i j rule ch low G2 r) : PathR Z G b S i j rule ch low G2 r := by
  have : callA G1 b S = callA G b S := funext (R.m9 K).2.2
  unfold PathR BestO at h ⊢
  rw [this] at h
  exact h
/-- the path of a call -/
theorem xc_path {i j : Nat} (V : Inv S) (R : Rep Z G e b S S) (hE : EnvA Z G) (hI : EnvI Z G) (ow : OW G) (hz : Fz G) (hi : (i : Int) < S 0 38) (hj : (j : Int) < S 0 38)
    (qq : ∀ G' r, Md (fun c => c = b + 9) G G' → gn G' ≤ gn G + 486 → gs G' ≤ gs G + 2754 → (r = none → gn G' = gn G ∧ gs G' = gs G) → PathR Z G b S (i : Int) (j : Int) (S 0 43) (decide (S 0 42 = 1)) (S 0 40) G' r → Q (.inl (some (tR r))) G') :
    TC Z (d + 10) mi_X2_path [tR (some e), tI (i : Int), tI (j : Int)] G Q := by
  have r42 := V.1.1.2.2.2.2.1
  have r43 := V.1.1.2.2.2.2.2.1
  refine c_X2_path ⟨R.k, xc_usable V R hI (fun w hw => r_X2_path_7 ⟨R.k, by rw [R.f42]; omega, ?_⟩)⟩
  rw [R.f42, R.f43]
  refine ⟨fun hm => ⟨e, rfl, R.k, ?_⟩, fun hm => ⟨e, rfl, R.k, ?_⟩⟩
  · rw [decide_eq_false hm] at qq
    exact xc_path2 (ch := false) V R hE ow hz hi hj hw r43 (fun G' r m n s h P => r_X2_path_27 (qq G' r m n s h P))
  · rw [decide_eq_true hm] at qq
    exact xc_path2 (ch := true) V R hE ow hz hi hj hw r43 (fun G' r m n s h P => r_X2_path_27 (qq G' r m n s h P))
/-- is there none? -/
theorem path_none {G0 : GH} {i j : Int} {r : Option Nat} (V : Inv S) (h : PathR Z G0 b S i j (S 0 43) (decide (S 0 42 = 1)) (S 0 40) G r) : r = none ↔ blockedB S i j = true := by
  have r42 := V.1.1.2.2.2.2.1
  have e0 : hunted S i j (S 0 43) (S 0 40) = -1 ↔ hunted S i j 0 (S 0 40) = -1 := by rw [hunted_iff V.1, hunted_iff V.1]
  unfold PathR at h
  unfold blockedB
  by_cases hh : hunted S i j (S 0 43) (S 0 40) = -1
  · rw [if_pos hh] at h
    rw [decide_eq_true (e0.mp hh), Bool.true_and]
    by_cases hm : S 0 42 = 1
    · rw [decide_eq_true hm, if_pos rfl] at h
      rw [decide_eq_false (by omega), Bool.false_or]
      cases hc : chain S i j (S 0 40) with
      | none => rw [hc] at h; exact ⟨fun _ => rfl, fun _ => h⟩
      | some c => rw [hc] at h; obtain ⟨-, a, h, -⟩ := h; exact ⟨fun hn => (by rw [h] at hn; cases hn), fun hn => by cases hn⟩
    · rw [decide_eq_false hm, if_neg (by decide)] at h
      rw [decide_eq_true (by omega), Bool.true_or]
      exact ⟨fun _ => rfl, fun _ => h⟩
  · rw [if_neg hh] at h
    rw [decide_eq_false (fun z => hh (e0.mpr z)), Bool.false_and]
    obtain ⟨a, h, -⟩ := h
    exact ⟨fun hn => (by rw [h] at hn; cases hn), fun hn => by cases hn⟩
theorem xc_isBlocked {i j : Nat} (V : Inv S) (R : Rep Z G e b S S) (hE : EnvA Z G) (hI : EnvI Z G) (ow : OW G) (hz : Fz G) (hi : (i : Int) < S 0 38) (hj : (j : Int) < S 0 38)
    (qq : ∀ G', Md (fun c => c = b + 9) G G' → gn G' ≤ gn G + 486 → gs G' ≤ gs G + 2754 → (blockedB S (i : Int) (j : Int) = true → gn G' = gn G ∧ gs G' = gs G) → Q (.inl (some (tI (b2i (blockedB S (i : Int) (j : Int)))))) G') :
    TC Z (d + 11) mi_X2_isBlocked [tR (some e), tI (i : Int), tI (j : Int)] G Q := by
  refine c_X2_isBlocked ⟨R.k, xc_path V R hE hI ow hz hi hj (fun G' r m n s h P => r_X2_isBlocked_6 ?_)⟩
  have pn := path_none V P
  refine ⟨fun hn => ?_, fun a ha => ?_⟩
  · have := qq G' m n s (fun _ => h hn)
    rw [pn.mp hn] at this
    exact this
  · have hb : blockedB S (i : Int) (j : Int) = false := by
      cases h' : blockedB S (i : Int) (j : Int)
      · rfl
      · rw [pn.mpr h'] at ha; cases ha
    have := qq G' m n s (fun z => by rw [hb] at z; cases z)
    rw [hb] at this
    exact this
/-- the chain that a caller asks for -/
theorem xc_chainFor {i j : Nat} (V : Inv S) (R : Rep Z G e b S S) (hE : EnvA Z G) (hI : EnvI Z G) (ow : OW G) (hz : Fz G) (hi : (i : Int) < S 0 38) (hj : (j : Int) < S 0 38)
    (qq : ∀ G' r, Md (fun c => c = b + 9) G G' → gn G' ≤ gn G + 486 → gs G' ≤ gs G + 2754 → BestO Z G b S G' r (chainOr S (i : Int) (j : Int)) → Q (.inl (some (tR r))) G') :
    TC Z (d + 10) mi_X2_chainFor [tR (some e), tI (i : Int), tI (j : Int)] G Q := by
  have r38 := V.r38
  have hh : -1 ≤ hunted S (i : Int) (j : Int) 0 (S 0 40) ∧ hunted S (i : Int) (j : Int) 0 (S 0 40) < S 0 40 := hunted_rng V.1
  have r40 := V.r40
  unfold chainOr at qq
  refine c_X2_chainFor ⟨R.k, xc_usable V R hI (fun w hw => r_X2_chainFor_7 ⟨e, rfl, R.k, xc_hunted (d := d + 1) V R (by omega) (by omega) hw (by omega) (fun G1 K1 => r_X2_chainFor_11 ⟨by omega, fun hn => ⟨(R.qk K1).k, ?_⟩, fun hn => ?_⟩)⟩)⟩
  · have R1 := R.qk K1
    have e1 := K1.2.1
    have e2 := K1.2.2
    refine xc_usable V R1 (R.qE hI K1) (fun w' hw' => r_X2_chainFor_26 ⟨e, rfl, R1.k, xc_chained (d := d + 1) V R1 (hE.md K1.1) (K1.1.ow ow) (K1.1.fz hz) hi hj hw' ((hunted_iff V.1).mp hn) (fun G2 r m2 n2 s2 _ B => r_X2_chainFor_29 (qq G2 r (K1.1.trans m2) (by omega) (by omega) ?_))⟩)
    rw [if_pos hn]
    have : callA G1 b S = callA G b S := funext (R.qA K1)
    unfold BestO at B ⊢
    rw [this] at B
    exact B
  · rw [if_neg hn] at qq
    have e1 := K1.2.1
    have e2 := K1.2.2
    exact qq G1 none K1.1 (by omega) (by omega) rfl
end EXP5
