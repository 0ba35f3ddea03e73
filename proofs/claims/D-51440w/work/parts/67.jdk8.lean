/-! THE JDK, 8: hash maps as functions of the hash -/
theorem MapN.md {P : Nat → Prop} {G G' : GH} {h n : Nat} {N : Nat → Prop} (M : MapN G h n N) (m : Md P G G') (hp : ∀ c, c < gn G → Ow G h c → ¬ P c) : MapN G' h n N ∧ ∀ a, N a → fI G' 143 a = fI G 143 a ∧ fR G' 144 a = fR G 144 a ∧ fR G' 145 a = fR G 145 a := by
  obtain ⟨M1, M2, M3, M4⟩ := M
  have s := m.sm M2 (hp h M2 (Or.inl rfl))
  have k1 : gK G' h = 12 ∨ gK G' h = 14 := by rw [s.1]; exact M1
  have l1 : h < gn G' := by have := m.le; omega
  have e1 : fI G' 122 h = (n : Int) := (s.2.2.2.1 122).1.trans M3
  rcases M4 with ⟨a1, a2, a3, a4⟩ | ⟨t, cap, bins, H, b1, b2, b3, b4, b5⟩
  · exact ⟨⟨k1, l1, e1, Or.inl ⟨(s.2.2.2.1 120).2.trans a1, (s.2.2.2.1 124).1.trans a2, a3, a4⟩⟩, fun a ha => absurd ha (a4 a)⟩
  · have H' := H.md m (fun c hc e => hp c hc (e.elim Or.inl (fun e => Or.inr e.1)))
    have sm : ∀ a, N a → fI G' 143 a = fI G 143 a ∧ fR G' 144 a = fR G 144 a ∧ fR G' 145 a = fR G 145 a := fun a ha => by
      obtain ⟨i, hi, hm⟩ := (b3 a).mp ha
      obtain ⟨n1, n2, n3, -⟩ := (H.2.2.2.2.2.2.2.2 i hi).2 a hm
      have s := m.sm n3 (hp a n3 (Or.inr n2))
      exact ⟨(s.2.2.2.1 143).1, (s.2.2.2.1 144).2, (s.2.2.2.1 145).2⟩
    exact ⟨⟨k1, l1, e1, Or.inr ⟨t, cap, bins, H', (s.2.2.2.1 124).1.trans b1, b2, b3, fun a b ha hb e => b4 a b ha hb (by rw [← (sm a ha).1, ← (sm b hb).1]; exact e), b5⟩⟩, sm⟩
theorem Lnk.md {P : Nat → Prop} {G G' : GH} {h : Nat} (L : Lnk G h) (hh : h < gn G) (m : Md P G G') (hp : ¬ P h) : Lnk G' h := by
  intro h14
  have s := m.sm hh hp
  obtain ⟨l1, l2, l3⟩ := L (by rw [← s.1]; exact h14)
  refine ⟨(s.2.2.2.1 129).1.trans l1, (s.2.2.2.1 130).1.trans l2, fun a ha => ?_⟩
  obtain ⟨y1, y2, y3⟩ := l3 a ((s.2.2.2.1 128).2.symm.trans ha)
  exact ⟨(m.k y3).trans y1, (m.p y3).trans y2, by have := m.le; omega⟩
def updM (f : Int → Option Nat) (hc : Int) (o : Option Nat) : Int → Option Nat := fun c => if c = hc then o else f c
theorem updM_at {f : Int → Option Nat} {hc : Int} {o : Option Nat} : updM f hc o hc = o := if_pos rfl
theorem updM_ne {f : Int → Option Nat} {hc c : Int} {o : Option Nat} (h : c ≠ hc) : updM f hc o c = f c := if_neg h
/-- a map as a function of the hash; KP says what a key of a hash is -/
def MapV (KP : GH → Nat → Int → Prop) (G : GH) (h n : Nat) (f : Int → Option Nat) : Prop :=
  ∃ N, MapN G h n N ∧ Lnk G h ∧ (∀ a, N a → ∃ k, fR G 144 a = some k ∧ KP G k (fI G 143 a) ∧ fR G 145 a = f (fI G 143 a) ∧ f (fI G 143 a) ≠ none) ∧ ∀ c, f c ≠ none → ∃ a, N a ∧ fI G 143 a = c
section MV
variable {KP : GH → Nat → Int → Prop} {Z : ZT} {d : Nat} {G : GH} {Q : TR → GH → Prop} {h k n : Nat} {hc : Int} {f : Int → Option Nat} {R : GH → Prop}
theorem MapV.md {P : Nat → Prop} {G' : GH} (M : MapV KP G h n f) (m : Md P G G') (hp : ∀ c, c < gn G → Ow G h c → ¬ P c) (hk : ∀ k c, KP G k c → KP G' k c) : MapV KP G' h n f := by
  obtain ⟨N, M1, M2, M3, M4⟩ := M
  obtain ⟨m1, m2⟩ := M1.md m hp
  refine ⟨N, m1, M2.md M1.2.1 m (hp h M1.2.1 (Or.inl rfl)), fun a ha => ?_, fun c hc => ?_⟩
  · obtain ⟨k, k1, k2, k3, k4⟩ := M3 a ha
    obtain ⟨s1, s2, s3⟩ := m2 a ha
    rw [s1, s2, s3]
    exact ⟨k, k1, hk _ _ k2, k3, k4⟩
  · obtain ⟨a, a1, a2⟩ := M4 c hc
    exact ⟨a, a1, (m2 a a1).1.trans a2⟩
theorem jv_getNode (M : MapV KP G h n f) (K : KeyH Z (d + 3) G k hc R) (E : ∀ G1, Md (fun c => c = k) G G1 → R G1 → ∀ k', KP G k' hc → EqK Z (d + 3) G1 k (some k')) (q : ∀ (G1 : GH) (r : Option Nat), Md (fun c => c = k) G G1 → R G1 ∨ G1 = G → gn G1 = gn G → gs G1 = gs G → (match r with | none => f hc = none | some a => NodeK G1 a ∧ fR G1 145 a = f hc ∧ f hc ≠ none) → Q (.inl (some (tR r))) G1) : TC Z (d + 4) mi_J1_getNode [tR (some h), tR (some k)] G Q := by
  obtain ⟨N, M1, M2, M3, M4⟩ := M
  obtain ⟨A1, A2, A3, A4⟩ := id M1
  rcases A4 with ⟨a1, a2, a3, a4⟩ | ⟨t, cap, bins, H, b1, b2, b3, b4, b5⟩
  · refine c_J1_getNode ⟨(mapK_f A1).1, fun v1 hv1 => ⟨fun _ => r_J1_getNode_148 (q G none Md.rf (Or.inr rfl) rfl rfl ?_), fun a3 ha3 => by rw [← hv1, a1] at ha3; cases ha3⟩⟩
    show f hc = none
    cases hf : f hc with
    | none => rfl
    | some v => obtain ⟨a, ha, -⟩ := M4 hc (by rw [hf]; exact fun e => by cases e); exact absurd ha (a4 a)
  · have hb : binOf cap hc < cap := by have := iand_cap H.2.2.2.2.2.2.2.1 hc; unfold binOf; omega
    refine jc_getNode H K (fun G1 m rr a ha he => ?_) (fun G1 m rr e1 e2 => q G1 _ m (Or.inl rr) e1 e2 ?_)
    · obtain ⟨k', k1, k2, k3, k4⟩ := M3 a ((b3 a).mpr ⟨_, hb, ha⟩)
      rw [k1]
      exact E G1 m rr k' (by rw [he] at k2; exact k2)
    · cases hl : lookN G (bins (binOf cap hc)) hc with
      | none =>
        show f hc = none
        cases hf : f hc with
        | none => rfl
        | some v =>
          obtain ⟨a, ha, he⟩ := M4 hc (by rw [hf]; exact fun e => by cases e)
          obtain ⟨i, hi, hm⟩ := (b3 a).mp ha
          have hi' := ((H.2.2.2.2.2.2.2.2 i hi).2 a hm).2.2.2.2
          rw [he] at hi'
          rw [← hi'] at hm
          unfold lookN at hl
          rw [List.find?_eq_none] at hl
          exact absurd (decide_eq_true he) (hl a hm)
      | some a =>
        have hm := List.mem_of_find?_eq_some hl
        have hd := List.find?_some hl
        have he : fI G 143 a = hc := of_decide_eq_true hd
        obtain ⟨n1, n2, n3, n4, n5⟩ := (H.2.2.2.2.2.2.2.2 _ hb).2 a hm
        obtain ⟨k', k1, k2, k3, k4⟩ := M3 a ((b3 a).mpr ⟨_, hb, hm⟩)
        have hne : a ≠ k := fun e => by
          have kK := K.1
          subst e
          unfold KeyK at kK
          unfold NodeK at n1
          omega
        have s := m.sm n3 hne
        rw [he] at k3 k4
        exact ⟨by unfold NodeK; rw [s.1]; exact n1, (s.2.2.2.1 145).2.trans k3, k4⟩
theorem jv_get (h12 : gK G h = 12) (M : MapV KP G h n f) (K : KeyH Z (d + 3) G k hc R) (E : ∀ G1, Md (fun c => c = k) G G1 → R G1 → ∀ k', KP G k' hc → EqK Z (d + 3) G1 k (some k')) (q : ∀ G1 : GH, Md (fun c => c = k) G G1 → R G1 ∨ G1 = G → gn G1 = gn G → gs G1 = gs G → Q (.inl (some (tR (f hc)))) G1) : TC Z (d + 5) mi_J1_get [tR (some h), tR (some k)] G Q := by
  refine c_J1_get ⟨Or.inl h12, fun _ => jv_getNode M K E (fun G1 r m rr e1 e2 hr => r_J1_get_5 ⟨fun hn => ?_, fun a ha => ?_⟩)⟩
  · subst hn
    have hr : f hc = none := hr
    have := q G1 m rr e1 e2
    rw [hr] at this
    exact this
  · subst ha
    obtain ⟨n1, n2, n3⟩ := hr
    exact ⟨(nodeK_f n1).2.2.1, fun v3 hv3 => by rw [← hv3, n2]; exact q G1 m rr e1 e2⟩
theorem jv_lget (h14 : gK G h = 14) (M : MapV KP G h n f) (K : KeyH Z (d + 3) G k hc R) (E : ∀ G1, Md (fun c => c = k) G G1 → R G1 → ∀ k', KP G k' hc → EqK Z (d + 3) G1 k (some k')) (q : ∀ G1 : GH, Md (fun c => c = k) G G1 → R G1 ∨ G1 = G → gn G1 = gn G → gs G1 = gs G → Q (.inl (some (tR (f hc)))) G1) : TC Z (d + 5) mi_J5_get [tR (some h), tR (some k)] G Q := by
  have hh : h < gn G := by obtain ⟨N, M1, -⟩ := M; exact M1.2.1
  have L : Lnk G h := by obtain ⟨N, M1, M2, -⟩ := M; exact M2
  have hne : h ≠ k := fun e => by have kK := K.1; rw [← e] at kK; unfold KeyK at kK; omega
  refine c_J5_get ⟨h14, jv_getNode M K E (fun G1 r m rr e1 e2 hr => r_J5_get_5 ⟨fun hn => ?_, fun a ha => ?_⟩)⟩
  · subst hn
    have hr : f hc = none := hr
    have := q G1 m rr e1 e2
    rw [hr] at this
    exact this
  · subst ha
    obtain ⟨n1, n2, n3⟩ := hr
    have s := m.sm hh hne
    have z : fI G1 129 h = 0 := (s.2.2.2.1 129).1.trans (L h14).1
    exact ⟨by rw [s.1, h14]; decide +kernel, by rw [z]; decide, fun _ => ⟨(nodeK_f n1).2.2.1, fun v3 hv3 => by rw [← hv3, n2]; exact q G1 m rr e1 e2⟩, fun hz => absurd z hz⟩
theorem jv_has (M : MapV KP G h n f) (K : KeyH Z (d + 3) G k hc R) (E : ∀ G1, Md (fun c => c = k) G G1 → R G1 → ∀ k', KP G k' hc → EqK Z (d + 3) G1 k (some k')) (q : ∀ G1 : GH, Md (fun c => c = k) G G1 → R G1 ∨ G1 = G → gn G1 = gn G → gs G1 = gs G → Q (.inl (some (tI (if f hc = none then 0 else 1)))) G1) : TC Z (d + 5) mi_J1_containsKey [tR (some h), tR (some k)] G Q := by
  have h1 : gK G h = 12 ∨ gK G h = 14 := by obtain ⟨N, M1, -⟩ := M; exact M1.1
  refine c_J1_containsKey ⟨h1, fun _ => jv_getNode M K E (fun G1 r m rr e1 e2 hr => r_J1_containsKey_5 ⟨fun hn => ?_, fun a ha => ?_⟩)⟩
  · subst hn
    have hr : f hc = none := hr
    have := q G1 m rr e1 e2
    rw [if_pos hr] at this
    exact this
  · subst ha
    have := q G1 m rr e1 e2
    rw [if_neg hr.2.2] at this
    exact this
theorem jv_size (M : MapV KP G h n f) (q : Q (.inl (some (tI (n : Int)))) G) : TC Z (d + 1) mi_J1_size [tR (some h)] G Q := by
  obtain ⟨N, M1, -⟩ := M
  exact c_J1_size ⟨(mapK_f M1.1).2.1, by rw [M1.2.2.1]; exact q⟩
/-- putting a key that isn't there -/
theorem jv_put (M : MapV KP G h n f) (K : KeyH Z (d + 4) G k hc R) (hn : n ≤ 46) (hf : f hc = none) (hbin : ∀ l : List Int, l.Nodup → (∀ c ∈ l, f c ≠ none ∧ binOf 16 c = binOf 16 hc) → l.length ≤ 7) (hz : Fz G) {v : Nat}
    (hR : ∀ G1, Md (fun c => c = k) G G1 → R G1 → KP G1 k hc ∧ ∀ k' c, KP G k' c → KP G1 k' c) (hS : ∀ A B : GH, Md (fun c => c = k) G A → Md (Ow A h) A B → (gK A h = 12 ∨ gK A h = 14) → ∀ k' c, KP A k' c → KP B k' c)
    (q : ∀ G1 G' : GH, Md (fun c => c = k) G G1 → R G1 → Md (Ow G1 h) G1 G' → Rm 1 6 G G' h → MapV KP G' h (n + 1) (updM f hc (some v)) → Q (.inl (some (tR none))) G') : TC Z (d + 5) mi_J1_put [tR (some h), tR (some k), tR (some v)] G Q := by
  obtain ⟨kK, kn, kr, kh⟩ := id K
  obtain ⟨N, M1, M2, M3, M4⟩ := M
  have hne : ∀ c, c < gn G → Ow G h c → (c = h ∨ gK G c = 109 ∨ NodeK G c) → ¬ c = k := fun c _ _ e1 e2 => by
    subst e2
    have := M1.1
    unfold KeyK at kK
    unfold NodeK at e1
    rcases e1 with e1 | e1 | e1 | e1
    · rw [e1] at kK; omega
    · omega
    · omega
    · omega
  refine c_J1_put (kh _ (fun G1 m rr e1 e2 => ?_))
  have M1' : MapN G1 h n N ∧ Lnk G1 h ∧ ∀ a, N a → fI G1 143 a = fI G 143 a ∧ fR G1 144 a = fR G 144 a ∧ fR G1 145 a = fR G 145 a := by
    obtain ⟨A1, A2, A3, A4⟩ := id M1
    have hk' : h ≠ k := hne h A2 (Or.inl rfl) (Or.inl rfl)
    have s := m.sm A2 hk'
    have k1 : gK G1 h = 12 ∨ gK G1 h = 14 := by rw [s.1]; exact A1
    have x1 : fI G1 122 h = (n : Int) := (s.2.2.2.1 122).1.trans A3
    have L1 := M2.md A2 m hk'
    rcases A4 with ⟨a1, a2, a3, a4⟩ | ⟨t, cap, bins, H, b1, b2, b3, b4, b5⟩
    · exact ⟨⟨k1, by omega, x1, Or.inl ⟨(s.2.2.2.1 120).2.trans a1, (s.2.2.2.1 124).1.trans a2, a3, a4⟩⟩, L1, fun a ha => absurd ha (a4 a)⟩
    · have H' := H.md m (fun c hc e => hne c hc (e.elim Or.inl (fun e => Or.inr e.1)) (e.elim Or.inl (fun e => Or.inr e.2)))
      have sm : ∀ a, N a → fI G1 143 a = fI G 143 a ∧ fR G1 144 a = fR G 144 a ∧ fR G1 145 a = fR G 145 a := fun a ha => by
        obtain ⟨i, hi, hm⟩ := (b3 a).mp ha
        obtain ⟨n1, n2, n3, -⟩ := (H.2.2.2.2.2.2.2.2 i hi).2 a hm
        have s := m.sm n3 (hne a n3 (Or.inr n2) (Or.inr (Or.inr n1)))
        exact ⟨(s.2.2.2.1 143).1, (s.2.2.2.1 144).2, (s.2.2.2.1 145).2⟩
      exact ⟨⟨k1, by omega, x1, Or.inr ⟨t, cap, bins, H', (s.2.2.2.1 124).1.trans b1, b2, b3, fun a b ha hb e => b4 a b ha hb (by rw [← (sm a ha).1, ← (sm b hb).1]; exact e), b5⟩⟩, L1, sm⟩
  obtain ⟨N1, L1, S1⟩ := M1'
  have c1 : capM G1 h = capM G h := capM_md M1 m ((m.sm M1.2.1 (hne h M1.2.1 (Or.inl rfl) (Or.inl rfl))).2.2.2.1 120).2
  obtain ⟨r1, r2⟩ := hR G1 m rr
  refine r_J1_put_5 ⟨h, rfl, N1.1, fun _ => jc_putVal N1 L1 kr hn (fun c hc' e => ?_) (fun l nd hl => ?_) (m.fz hz) rz_ok (fun G' a P p2 => r_J1_put_12 ?_)⟩
  · rw [(S1 c hc').1] at e
    obtain ⟨k', -, -, -, k4⟩ := M3 c hc'
    rw [e] at k4
    exact k4 hf
  · have := hbin (l.map (fun a => fI G1 143 a)) ?_ (fun c hc' => ?_)
    · rw [List.length_map] at this; exact this
    · refine List.pairwise_map.mpr (List.Pairwise.imp_of_mem (fun {a b} ha hb hab e => hab ?_) nd)
      have ua := (hl a ha).1
      have ub := (hl b hb).1
      obtain ⟨-, -, -, B4⟩ := N1
      rcases B4 with ⟨a1, a2, a3, a4⟩ | ⟨t, cap, bins, H, b1, b2, b3, b4, b5⟩
      · exact absurd ua (a4 a)
      · exact b4 a b ua ub e
    · obtain ⟨a, ha, rfl⟩ := List.mem_map.mp hc'
      obtain ⟨ua, ub⟩ := hl a ha
      obtain ⟨k', -, -, -, k4⟩ := M3 a ua
      rw [← (S1 a ua).1] at k4
      exact ⟨k4, ub⟩
  · obtain ⟨P1, P2, P3, P4, P5, P6, P7⟩ := P
    refine q G1 G' m rr P1 (by unfold Rm at p2 ⊢; rw [c1] at p2; omega) ⟨_, P2, P6, fun c hc' => ?_, fun c hc' => ?_⟩
    · rcases hc' with hc' | rfl
      · obtain ⟨k', k1, k2, k3, k4⟩ := M3 c hc'
        obtain ⟨y1, y2, y3⟩ := P7 c hc'
        obtain ⟨x1, x2, x3⟩ := S1 c hc'
        have hne' : fI G 143 c ≠ hc := fun e => by rw [e] at k4; exact k4 hf
        rw [y1, y2, y3, x1, x2, x3, updM_ne hne']
        exact ⟨k', k1, hS G1 G' m P1 N1.1 _ _ (r2 _ _ k2), k3, k4⟩
      · obtain ⟨v1, v2, v3, v4⟩ := P5
        rw [v2, v3, v4, updM_at]
        exact ⟨k, rfl, hS G1 G' m P1 N1.1 _ _ r1, rfl, fun e => by cases e⟩
    · by_cases e : c = hc
      · exact ⟨a, Or.inr rfl, by rw [e]; exact P5.2.1⟩
      · rw [updM_ne e] at hc'
        obtain ⟨b, b1, b2⟩ := M4 c hc'
        exact ⟨b, Or.inl b1, (P7 b b1).1.trans ((S1 b b1).1.trans b2)⟩
/-- removing a key that is there; the hash changes nothing -/
theorem jv_del (h12 : gK G h = 12) (M : MapV KP G h n f) (K : KeyH Z (d + 4) G k hc (fun G1 => G1 = G)) (E : ∀ k', KP G k' hc → EqK Z (d + 3) G k (some k')) {v : Nat} (hf : f hc = some v) (hn : 0 < n) (hS : ∀ B : GH, Md (Ow G h) G B → ∀ k' c, KP G k' c → KP B k' c)
    (q : ∀ G' : GH, Md (Ow G h) G G' → gn G' = gn G → gs G' = gs G → capM G' h = capM G h → MapV KP G' h (n - 1) (updM f hc none) → Q (.inl (some (tR (some v)))) G') : TC Z (d + 5) mi_J1_remove [tR (some h), tR (some k)] G Q := by
  obtain ⟨kK, kn, kr, kh⟩ := id K
  obtain ⟨N, M1, M2, M3, M4⟩ := M
  obtain ⟨a, ha, he⟩ := M4 hc (by rw [hf]; exact fun e => by cases e)
  obtain ⟨k', k1, k2, k3, k4⟩ := M3 a ha
  rw [he] at k2 k3
  refine c_J1_remove (kh _ (fun G1 m rr e1 e2 => ?_))
  subst rr
  refine r_J1_remove_5 ⟨h, rfl, Or.inl h12, fun _ => jc_removeNode M1 hn h12 kr kK ha he (by rw [k1]; exact E k' k2) (fun G' D => r_J1_remove_12 ⟨fun hn' => (by cases hn'), fun a1 ha1 => ?_⟩)⟩
  have ea : a1 = a := by cases ha1; rfl
  subst ea
  obtain ⟨D1, D2, D3, D4, D6, D5⟩ := D
  have nk : NodeK G1 a1 ∧ a1 < gn G1 := by
    obtain ⟨A1, A2, A3, A4⟩ := M1
    rcases A4 with ⟨a1', a2, a3, a4⟩ | ⟨t, cap, bins, H, b1, b2, b3, b4, b5⟩
    · exact absurd ha (a4 _)
    · obtain ⟨i, hi, hm⟩ := (b3 _).mp ha
      obtain ⟨n1, n2, n3, -⟩ := (H.2.2.2.2.2.2.2.2 i hi).2 _ hm
      exact ⟨n1, n3⟩
  refine ⟨(nodeK_f (by unfold NodeK; rw [D1.k nk.2]; exact nk.1 : NodeK G' a1)).2.2.1, fun v3 hv3 => ?_⟩
  rw [← hv3, (D5 a1).2.2, k3, hf]
  refine q G' D1 D2 D3 (capM_md M1 D1 D6) ⟨_, D4, fun h14 => by rw [D1.k M1.2.1] at h14; omega, fun c hc' => ?_, fun c hc' => ?_⟩
  · obtain ⟨x1, x2, x3⟩ := D5 c
    obtain ⟨k'', l1, l2, l3, l4⟩ := M3 c hc'.1
    have hne : fI G1 143 c ≠ hc := fun e => hc'.2 (by
      obtain ⟨A1, A2, A3, A4⟩ := M1
      rcases A4 with ⟨a1', a2, a3, a4⟩ | ⟨t, cap, bins, H, b1, b2, b3, b4, b5⟩
      · exact absurd ha (a4 _)
      · exact b4 c a1 hc'.1 ha (e.trans he.symm))
    rw [x1, x2, x3, updM_ne hne]
    exact ⟨k'', l1, hS G' D1 _ _ l2, l3, l4⟩
  · by_cases e : c = hc
    · rw [e, updM_at] at hc'; exact absurd rfl hc'
    · rw [updM_ne e] at hc'
      obtain ⟨b, b1, b2⟩ := M4 c hc'
      exact ⟨b, ⟨b1, fun e' => e (by rw [← b2, e', he])⟩, (D5 b).1.trans b2⟩
theorem jv_init (hk : gK G h = 12) (hh : h < gn G) (z122 : fI G 122 h = 0) (z124 : fI G 124 h = 0) (z120 : fR G 120 h = none) (q : ∀ G', Md (fun c => c = h) G G' → gn G' = gn G → gs G' = gs G → MapV KP G' h 0 (fun _ => none) → Q (.inl none) G') : TC Z (d + 2) mi_J1_init [tR (some h)] G Q :=
  jc_minit hk hh z122 z124 z120 (fun G' m e1 e2 M => q G' m e1 e2 ⟨_, M, fun h14 => by rw [m.k hh] at h14; omega, fun _ e => e.elim, fun _ e => absurd rfl e⟩)
theorem jv_linit (hk : gK G h = 14) (hh : h < gn G) (z122 : fI G 122 h = 0) (z124 : fI G 124 h = 0) (z120 : fR G 120 h = none) (z128 : fR G 128 h = none) (q : ∀ G', Md (fun c => c = h) G G' → gn G' = gn G → gs G' = gs G → MapV KP G' h 0 (fun _ => none) → Q (.inl none) G') : TC Z (d + 3) mi_J5_init [tR (some h)] G Q := by
  have m : Md (fun c => c = h) G (setI G 125 h (UInt32.toNat (1061158912 : UInt32) : Int)) := Md.setI (P := fun c => c = h) Md.rf hh (fun _ => rfl)
  refine c_J5_init (c_J1_init (c_J0_init (r_J1_init_4 ⟨by rw [hk]; decide +kernel, r_J5_init_4 ⟨hk, ?_⟩⟩)))
  refine q _ ((m.setI hh (fun _ => rfl)).setI hh (fun _ => rfl)) rfl rfl ⟨fun _ => False, ⟨Or.inr hk, hh, ?_, Or.inl ⟨z120, ?_, rfl, fun _ => id⟩⟩, fun _ => ⟨hI_at, ?_, fun a ha => ?_⟩, fun _ e => e.elim, fun _ e => absurd rfl e⟩
  · exact (hI_ne (Or.inl (by decide))).trans ((hI_ne (Or.inl (by decide))).trans ((hI_ne (Or.inl (by decide))).trans z122))
  · exact (hI_ne (Or.inl (by decide))).trans ((hI_ne (Or.inl (by decide))).trans ((hI_ne (Or.inl (by decide))).trans z124))
  · exact (hI_ne (Or.inl (by decide))).trans hI_at
  · have ha : fR G 128 h = some a := ha
    rw [z128] at ha; cases ha
end MV
