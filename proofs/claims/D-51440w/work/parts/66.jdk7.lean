/-! THE JDK, 7: hash maps: removing -/
/-- the node a is out of the map -/
def DelG (G G' : GH) (h n : Nat) (N : Nat → Prop) (a : Nat) : Prop :=
  Md (Ow G h) G G' ∧ gn G' = gn G ∧ gs G' = gs G ∧ MapN G' h (n - 1) (fun c => N c ∧ c ≠ a) ∧ fR G' 120 h = fR G 120 h ∧ ∀ c, fI G' 143 c = fI G 143 c ∧ fR G' 144 c = fR G 144 c ∧ fR G' 145 c = fR G 145 c
section DEL
variable {Z : ZT} {d : Nat} {Q : TR → GH → Prop} {G : GH} {h k n t cap a idx : Nat} {bins : Nat → List Nat} {hc : Int} {N : Nat → Prop}
def DelC (G : GH) (h t cap n : Nat) (bins : Nat → List Nat) (N : Nat → Prop) (a idx : Nat) : Prop :=
  gK G h = 12 ∧ HM G h t cap bins ∧ fI G 122 h = (n : Int) ∧ fI G 124 h = ((3 * cap / 4 : Nat) : Int) ∧ n ≤ 3 * cap / 4 ∧ (∀ c, N c ↔ ∃ i, i < cap ∧ c ∈ bins i) ∧ (∀ b c, N b → N c → fI G 143 b = fI G 143 c → b = c) ∧ (∀ i, i < cap → (bins i).Nodup) ∧ 0 < n ∧ a ∈ bins idx ∧ idx < cap
theorem del_map (C : DelC G h t cap n bins N a idx) {Gx : GH} {L' : List Nat} {r2 r3 r6 r7 : Option Nat} {x1 x4 x5 x8 x9 : Int} {o11 o12 o13 : Option Value} (m : Md (Ow G h) G Gx) (hn : gn Gx = gn G) (hs : gs Gx = gs G) (eI : ∀ f c, fI Gx f c = fI G f c) (eR : ∀ f c, f ≠ 146 → fR Gx f c = fR G f c) (e146 : ∀ i, i < cap → i ≠ idx → ∀ c ∈ bins i, fR Gx 146 c = fR G 146 c)
    (eQ : ∀ i, i ≠ idx → aR Gx t i = aR G t i) (hL : ∀ c, c ∈ L' ↔ c ∈ bins idx ∧ c ≠ a) (nd : L'.Nodup) (hC : Chn Gx (aR Gx t idx) L') (q : ∀ G', DelG G G' h n N a → Q (.inl (some (tR (some a)))) G') :
    (kfb (gK G h) 123 = true) ∧ (kwb (gK G h) 123 = true) ∧ (kfb (gK G h) 122 = true) ∧ (kwb (gK G h) 122 = true) ∧ (gK G h = 12 ∨ gK G h = 14) ∧ ((gK G h = 12) → TC Z (d + 1) mi_J1_afterNodeRemoval [tR (some h), tR (some a)] (setI (setI Gx 123 h (fI G 123 h + 1)) 122 h (fI G 122 h - 1)) (KQ Z mi_J1_removeNode (d + 2) 283 286 [some (tR (some h)), some (tI x1), some (tR r2), some (tR r3), some (tI x4), some (tI x5), some (tR r6), some (tR r7), some (tI x8), some (tI x9), some (tR (some a)), o11, o12, o13] [] Q)) ∧
      ((gK G h = 14) → TC Z (d + 1) mi_J5_afterNodeRemoval [tR (some h), tR (some a)] (setI (setI Gx 123 h (fI G 123 h + 1)) 122 h (fI G 122 h - 1)) (KQ Z mi_J1_removeNode (d + 2) 283 286 [some (tR (some h)), some (tI x1), some (tR r2), some (tR r3), some (tI x4), some (tI x5), some (tR r6), some (tR r7), some (tI x8), some (tI x9), some (tR (some a)), o11, o12, o13] [] Q)) := by
  obtain ⟨C1, H, C2, C3, C4, C5, C6, C7, C8, C9, C10⟩ := C
  obtain ⟨g1, g2, g3, g4, g5, g6, g7, g8, g9⟩ := id H
  obtain ⟨f1, f2, f3, f4, w1, w2, w3, w4⟩ := mapK_f g1
  refine ⟨f3, w3, f2, w2, g1, fun _ => c_J1_afterNodeRemoval (r_J1_removeNode_286 (q _ ?_)), fun h14 => by omega⟩
  have m3 : Md (Ow G h) G (setI (setI Gx 123 h (fI G 123 h + 1)) 122 h (fI G 122 h - 1)) := (m.setI (by omega) (fun _ => Or.inl rfl)).setI (by show h < gn Gx; omega) (fun _ => Or.inl rfl)
  have s3 : ∀ f c, f ≠ 122 → f ≠ 123 → fI (setI (setI Gx 123 h (fI G 123 h + 1)) 122 h (fI G 122 h - 1)) f c = fI G f c := fun f c p q => (hI_ne (Or.inl p)).trans ((hI_ne (Or.inl q)).trans (eI f c))
  have s122 : fI (setI (setI Gx 123 h (fI G 123 h + 1)) 122 h (fI G 122 h - 1)) 122 h = fI G 122 h - 1 := hI_at
  have sR : ∀ f c, fR (setI (setI Gx 123 h (fI G 123 h + 1)) 122 h (fI G 122 h - 1)) f c = fR Gx f c := fun _ _ => rfl
  have sQ : ∀ c i, aR (setI (setI Gx 123 h (fI G 123 h + 1)) 122 h (fI G 122 h - 1)) c i = aR Gx c i := fun _ _ => rfl
  have sn : gn (setI (setI Gx 123 h (fI G 123 h + 1)) 122 h (fI G 122 h - 1)) = gn Gx := rfl
  have ss : gs (setI (setI Gx 123 h (fI G 123 h + 1)) 122 h (fI G 122 h - 1)) = gs Gx := rfl
  generalize setI (setI Gx 123 h (fI G 123 h + 1)) 122 h (fI G 122 h - 1) = G3 at *
  have e143 : ∀ c, fI G3 143 c = fI G 143 c := fun c => s3 143 c (by decide) (by decide)
  have nodeOf : ∀ i, i < cap → ∀ c ∈ bins i, NodeK G3 c ∧ gP G3 c = h ∧ c < gn G3 ∧ inR (fI G3 143 c) ∧ binOf cap (fI G3 143 c) = i := fun i hi c hc' => by
    obtain ⟨n1, n2, n3, n4, n5⟩ := (g9 i hi).2 c hc'
    exact ⟨by unfold NodeK; rw [m3.k n3]; exact n1, (m3.p n3).trans n2, by omega, by rw [e143]; exact n4, by rw [e143]; exact n5⟩
  refine ⟨m3, by omega, by omega, ⟨by rw [m3.k g2]; exact g1, by omega, by rw [s122, C2]; omega, Or.inr ⟨t, cap, fun i => if i = idx then L' else bins i, ?_, (s3 124 h (by decide) (by decide)).trans C3, by omega, fun c => ?_, fun b c hb hc' e => C6 b c hb.1 hc'.1 (by rw [← e143, ← e143]; exact e), fun i hi => ?_⟩⟩, (sR 120 h).trans (eR 120 h (by decide)), fun c => ⟨e143 c, (sR 144 c).trans (eR 144 c (by decide)), (sR 145 c).trans (eR 145 c (by decide))⟩⟩
  · refine ⟨by rw [m3.k g2]; exact g1, by omega, (sR 120 h).trans ((eR 120 h (by decide)).trans g3), (m3.k g7).trans g4, (m3.l g7).trans g5, (m3.p g7).trans g6, by omega, g8, fun i hi => ?_⟩
    dsimp only
    by_cases e : i = idx
    · rw [if_pos e, sQ, e]
      exact ⟨Chn.congr _ _ hC (fun c _ => sR 146 c), fun c hc' => nodeOf idx C10 c ((hL c).mp hc').1⟩
    · rw [if_neg e, sQ, eQ i e]
      exact ⟨Chn.congr _ _ (g9 i hi).1 (fun c hc' => (sR 146 c).trans (e146 i hi e c hc')), nodeOf i hi⟩
  · show N c ∧ c ≠ a ↔ _
    rw [C5 c]
    constructor
    · rintro ⟨⟨i, hi, hm⟩, hne⟩
      refine ⟨i, hi, ?_⟩
      dsimp only
      split
      · exact (hL c).mpr ⟨by rename_i e; rw [← e]; exact hm, hne⟩
      · exact hm
    · rintro ⟨i, hi, hm⟩
      dsimp only at hm
      by_cases e : i = idx
      · rw [if_pos e] at hm
        exact ⟨⟨idx, C10, ((hL c).mp hm).1⟩, ((hL c).mp hm).2⟩
      · rw [if_neg e] at hm
        refine ⟨⟨i, hi, hm⟩, fun ec => e ?_⟩
        subst ec
        exact ((g9 i hi).2 c hm).2.2.2.2.symm.trans ((g9 idx C10).2 c C9).2.2.2.2
  · dsimp only
    split
    · exact nd
    · exact C7 i hi
theorem Chn.app {G : GH} {b : Nat} : ∀ (l l' : List Nat) (r : Option Nat), Chn G r (l ++ b :: l') → Chn G (some b) (b :: l')
  | [], _, _, h => ⟨rfl, h.2⟩
  | _ :: l, l', _, h => Chn.app l l' _ h.2
theorem Chn.cut {G G' : GH} {p a : Nat} {post : List Nat} : ∀ (pre : List Nat) (r : Option Nat), Chn G r (pre ++ p :: a :: post) → (∀ c, c ≠ p → fR G' 146 c = fR G 146 c) → fR G' 146 p = fR G 146 a → (pre ++ p :: a :: post).Nodup → Chn G' r (pre ++ p :: post) := by
  intro pre
  induction pre with
  | nil =>
    intro r hh hs hp nd
    have nd2 := (List.nodup_cons.mp nd).1
    refine ⟨hh.1, ?_⟩
    rw [hp]
    exact Chn.congr _ _ hh.2.2 (fun c hc => hs c (fun e => nd2 (e ▸ List.mem_cons_of_mem _ hc)))
  | cons b pre ih =>
    intro r hh hs hp nd
    obtain ⟨n1, n2⟩ := List.nodup_cons.mp nd
    refine ⟨hh.1, ?_⟩
    rw [hs b (fun e => n1 (List.mem_append.mpr (Or.inr (e ▸ List.mem_cons_self))))]
    exact ih _ hh.2 hs hp n2
theorem chn_ke {G : GH} : ∀ (l : List Nat) (r : Option Nat), Chn G r l → (∀ c ∈ l, NodeK G c) → ∀ b, r = some b → KE (gK G b) "java/util/HashMap$Node"
  | [], _, h, _, b, hb => by rw [h] at hb; cases hb
  | a :: _, _, h, k, b, hb => by rw [h.1] at hb; cases hb; exact ke_nodeK (k a List.mem_cons_self)
/-- behind the head of a bin -/
theorem del_end (C : DelC G h t cap n bins N a idx) {pre post : List Nat} {p : Nat} (hB : bins idx = pre ++ p :: a :: post) {r2 : Option Nat} {x1 x5 x8 : Int} {o11 o12 o13 : Option Value} (q : ∀ G', DelG G G' h n N a → Q (.inl (some (tR (some a)))) G') :
    TW Z mi_J1_removeNode (d + 2) 171 [some (tR (some h)), some (tI x1), some (tR r2), some (tR none), some (tI 0), some (tI x5), some (tR (some t)), some (tR (some p)), some (tI x8), some (tI (idx : Int)), some (tR (some a)), o11, o12, o13] [] G Q := by
  obtain ⟨C1, H, C2, C3, C4, C5, C6, C7, C8, C9, C10⟩ := id C
  obtain ⟨g1, g2, g3, g4, g5, g6, g7, g8, g9⟩ := id H
  have nd := C7 idx C10
  have hp : p ∈ bins idx := by rw [hB]; exact List.mem_append.mpr (Or.inr List.mem_cons_self)
  obtain ⟨n1, n2, n3, -, n5⟩ := (g9 idx C10).2 a C9
  obtain ⟨p1, p2, p3, -, p5⟩ := (g9 idx C10).2 p hp
  have hpa : p ≠ a := fun e => by
    rw [hB] at nd
    have := (List.nodup_cons.mp (List.nodup_append.mp nd).2.1).1
    exact this (e ▸ List.mem_cons_self)
  refine r_J1_removeNode_171 ⟨fun hn => (by cases hn), fun a1 ha1 => ?_⟩
  have ea : a1 = a := by cases ha1; rfl
  subst ea
  refine ⟨by decide, fun _ => ⟨n1, fun _ => ⟨(nodeK_f n1).2.2.2, fun v5 hv5 => ⟨p, rfl, (nodeK_w p1).2.2.2, ?_⟩⟩, fun e => by cases e; exact absurd rfl hpa⟩, fun hn => absurd rfl hn⟩
  have nd' : (pre ++ p :: a1 :: post).Nodup := by rw [← hB]; exact nd
  refine del_map C (Gx := setR G 146 p v5) (L' := pre ++ p :: post) (Md.rf.setR p3 (fun _ => Or.inr p2)) rfl rfl (fun _ _ => rfl) (fun f c hf => hR_ne (Or.inl hf)) (fun i hi hne c hc' => hR_ne (Or.inr (fun e => hne ?_))) (fun _ _ => rfl) (fun c => ?_) ?_ ?_ q
  · rw [e] at hc'
    exact ((g9 i hi).2 p hc').2.2.2.2.symm.trans p5
  · rw [hB]
    have na : a1 ∉ pre ∧ a1 ∉ post := by
      obtain ⟨x1, x2, x3⟩ := List.nodup_append.mp nd'
      exact ⟨fun e => x3 a1 e a1 (List.mem_cons_of_mem _ List.mem_cons_self) rfl, (List.nodup_cons.mp (List.nodup_cons.mp x2).2).1⟩
    simp only [List.mem_append, List.mem_cons]
    constructor
    · rintro (hh | hh | hh)
      · exact ⟨Or.inl hh, fun e => na.1 (e ▸ hh)⟩
      · exact ⟨Or.inr (Or.inl hh), fun e => hpa (hh.symm.trans e)⟩
      · exact ⟨Or.inr (Or.inr (Or.inr hh)), fun e => na.2 (e ▸ hh)⟩
    · rintro ⟨hh | hh | hh | hh, hne⟩
      · exact Or.inl hh
      · exact Or.inr (Or.inl hh)
      · exact absurd hh hne
      · exact Or.inr (Or.inr hh)
  · obtain ⟨x1, x2, x3⟩ := List.nodup_append.mp nd'
    have x4 := List.nodup_cons.mp x2
    refine List.nodup_append.mpr ⟨x1, List.nodup_cons.mpr ⟨fun e => x4.1 (List.mem_cons_of_mem _ e), (List.nodup_cons.mp x4.2).2⟩, fun x hx y hy => x3 x hx y ?_⟩
    rcases List.mem_cons.mp hy with e | e
    · rw [e]; exact List.mem_cons_self
    · exact List.mem_cons_of_mem _ (List.mem_cons_of_mem _ e)
  · refine Chn.cut pre _ ?_ (fun c hc' => hR_ne (Or.inr hc')) ?_ nd'
    · rw [← hB]; exact (g9 idx C10).1
    · rw [hR_at]; exact hv5.symm
/-- the head of a bin -/
theorem del_head (C : DelC G h t cap n bins N a idx) {post : List Nat} (hB : bins idx = a :: post) {r2 : Option Nat} {x1 x5 x8 : Int} {o11 o12 o13 : Option Value} (q : ∀ G', DelG G G' h n N a → Q (.inl (some (tR (some a)))) G') :
    TW Z mi_J1_removeNode (d + 2) 171 [some (tR (some h)), some (tI x1), some (tR r2), some (tR none), some (tI 0), some (tI x5), some (tR (some t)), some (tR (some a)), some (tI x8), some (tI (idx : Int)), some (tR (some a)), o11, o12, o13] [] G Q := by
  obtain ⟨C1, H, C2, C3, C4, C5, C6, C7, C8, C9, C10⟩ := id C
  obtain ⟨g1, g2, g3, g4, g5, g6, g7, g8, g9⟩ := id H
  have nd := C7 idx C10
  obtain ⟨n1, n2, n3, -, n5⟩ := (g9 idx C10).2 a C9
  refine r_J1_removeNode_171 ⟨fun hn => (by cases hn), fun a1 ha1 => ?_⟩
  have ea : a1 = a := by cases ha1; rfl
  subst ea
  have nd' : (a1 :: post).Nodup := by rw [← hB]; exact nd
  have hC := (g9 idx C10).1
  rw [hB] at hC
  refine ⟨by decide, fun _ => ⟨n1, fun hn => absurd rfl hn, fun _ => ⟨(nodeK_f n1).2.2.2, fun v9 hv9 => ⟨t, rfl, g4, by rw [g5]; omega, fun b hb => ?_, ?_⟩⟩⟩, fun hn => absurd rfl hn⟩
  · exact chn_ke post v9 (by rw [← hv9]; exact hC.2) (fun c hc' => ((g9 idx C10).2 c (by rw [hB]; exact List.mem_cons_of_mem _ hc')).1) b hb
  rw [Int.toNat_natCast]
  refine del_map C (Gx := setQ G t idx v9) (L' := post) (Md.rf.setQ g7 (fun _ => Or.inr g6)) rfl rfl (fun _ _ => rfl) (fun f c hf => rfl) (fun i hi hne c hc' => rfl) (fun i hi => hQ_ne (Or.inr hi)) (fun c => ?_) (List.nodup_cons.mp nd').2 ?_ q
  · rw [hB]
    have := (List.nodup_cons.mp nd').1
    simp only [List.mem_cons]
    exact ⟨fun hh => ⟨Or.inr hh, fun e => this (e ▸ hh)⟩, fun ⟨hh, hne⟩ => hh.resolve_left hne⟩
  · rw [hQ_at, ← hv9]
    exact Chn.congr _ _ hC.2 (fun _ _ => rfl)
end DEL
section DEL2
variable {Z : ZT} {d : Nat} {Q : TR → GH → Prop} {G : GH} {h k n t cap a : Nat} {bins : Nat → List Nat} {hc : Int} {N : Nat → Prop}
/-- behind nodes that aren't it -/
theorem del_chain (C : DelC G h t cap n bins N a (binOf cap hc)) (hr : inR hc) (hk : KeyK G k) (hca : fI G 143 a = hc) (E : EqK Z (d + 3) G k (fR G 144 a)) {x8 : Int} (q : ∀ G', DelG G G' h n N a → Q (.inl (some (tR (some a)))) G') :
    ∀ (l pre : List Nat) (p e : Nat) (o12 : Option Value), bins (binOf cap hc) = pre ++ p :: e :: l → Chn G (some e) (e :: l) → a ∈ e :: l → TW Z mi_J1_removeNode (d + 4) 115 [some (tR (some h)), some (tI hc), some (tR (some k)), some (tR none), some (tI 0), some (tI 1), some (tR (some t)), some (tR (some p)), some (tI x8), some (tI ((binOf cap hc : Nat) : Int)), some (tR none), some (tR (some e)), o12, none] [] G Q := by
  obtain ⟨C1, H, C2, C3, C4, C5, C6, C7, C8, C9, C10⟩ := id C
  obtain ⟨g1, g2, g3, g4, g5, g6, g7, g8, g9⟩ := id H
  intro l
  induction l with
  | nil =>
    intro pre p e o12 hB hch ha
    have e1 : e = a := (List.mem_singleton.mp ha).symm
    subst e1
    obtain ⟨n1, n2, n3, n4, n5⟩ := (g9 _ C10).2 e C9
    refine r_J1_removeNode_115 ⟨e, rfl, (nodeK_f n1).1, n4, hr, fun hne => absurd hca hne, fun _ => ⟨e, rfl, (nodeK_f n1).2.1, fun v12 hv12 => ⟨fun _ => del_end C hB q, fun hne => ⟨fun hn => (by cases hn), fun a15 ha15 => ?_⟩⟩⟩⟩
    cases ha15
    rw [hv12] at E
    rcases E with E | E
    · exact absurd E hne
    · have := E (KQ Z mi_J1_removeNode (d + 4) 143 146 [some (tR (some h)), some (tI hc), some (tR (some k)), some (tR none), some (tI 0), some (tI 1), some (tR (some t)), some (tR (some p)), some (tI x8), some (tI ((binOf cap hc : Nat) : Int)), some (tR none), some (tR (some e)), some (tR v12), none] [] Q) (r_J1_removeNode_146 ⟨by decide, fun h' => absurd h' (by decide), fun _ => del_end C hB q⟩)
      exact ⟨hk, this⟩
  | cons b l ih =>
    intro pre p e o12 hB hch ha
    have he : e ∈ bins (binOf cap hc) := by rw [hB]; simp
    obtain ⟨n1, n2, n3, n4, n5⟩ := (g9 _ C10).2 e he
    by_cases e1 : e = a
    · subst e1
      refine r_J1_removeNode_115 ⟨e, rfl, (nodeK_f n1).1, n4, hr, fun hne => absurd hca hne, fun _ => ⟨e, rfl, (nodeK_f n1).2.1, fun v12 hv12 => ⟨fun _ => del_end C hB q, fun hne => ⟨fun hn => (by cases hn), fun a15 ha15 => ?_⟩⟩⟩⟩
      cases ha15
      rw [hv12] at E
      rcases E with E | E
      · exact absurd E hne
      · have := E (KQ Z mi_J1_removeNode (d + 4) 143 146 [some (tR (some h)), some (tI hc), some (tR (some k)), some (tR none), some (tI 0), some (tI 1), some (tR (some t)), some (tR (some p)), some (tI x8), some (tI ((binOf cap hc : Nat) : Int)), some (tR none), some (tR (some e)), some (tR v12), none] [] Q) (r_J1_removeNode_146 ⟨by decide, fun h' => absurd h' (by decide), fun _ => del_end C hB q⟩)
        exact ⟨hk, this⟩
    · have hne : fI G 143 e ≠ hc := fun h' => e1 (C6 e a ((C5 e).mpr ⟨_, C10, he⟩) ((C5 a).mpr ⟨_, C10, C9⟩) (h'.trans hca.symm))
      have hnx : fR G 146 e = some b := hch.2.1
      have ha' : a ∈ b :: l := by
        rcases List.mem_cons.mp ha with h' | h'
        · exact absurd h'.symm e1
        · exact h'
      refine r_J1_removeNode_115 ⟨e, rfl, (nodeK_f n1).1, n4, hr, fun _ => ⟨e, rfl, (nodeK_f n1).2.2.2, fun v6 hv6 => ⟨fun hn => (by rw [← hv6, hnx] at hn; cases hn), fun a8 ha8 => ?_⟩⟩, fun h' => absurd h' hne⟩
      have e8 : a8 = b := by rw [← hv6, hnx] at ha8; cases ha8; rfl
      subst e8
      exact ih (pre ++ [p]) e a8 o12 (by rw [hB]; simp) ⟨rfl, hch.2.2⟩ ha'
end DEL2
theorem jc_removeNode {Z : ZT} {d : Nat} {G : GH} {Q : TR → GH → Prop} {h k n a : Nat} {hc : Int} {N : Nat → Prop} (M : MapN G h n N) (hn : 0 < n) (h12 : gK G h = 12) (hr : inR hc) (hk : KeyK G k) (ha : N a) (hca : fI G 143 a = hc) (E : EqK Z (d + 3) G k (fR G 144 a)) (q : ∀ G', DelG G G' h n N a → Q (.inl (some (tR (some a)))) G') : TC Z (d + 4) mi_J1_removeNode [tR (some h), tI hc, tR (some k), tR none, tI 0, tI 1] G Q := by
  obtain ⟨M1, M2, M3, M4⟩ := id M
  obtain ⟨f1, f2, f3, f4, w1, w2, w3, w4⟩ := mapK_f M1
  rcases M4 with ⟨a1, a2, a3, a4⟩ | ⟨t, cap, bins, H, b1, b2, b3, b4, b5⟩
  · exact absurd ha (a4 a)
  obtain ⟨g1, g2, g3, g4, g5, g6, g7, g8, g9⟩ := id H
  have ib := iand_cap g8 hc
  have gib : iand ((cap : Int) - 1) hc = ((binOf cap hc : Nat) : Int) := by unfold binOf; omega
  have hb : binOf cap hc < cap := by omega
  have haB : a ∈ bins (binOf cap hc) := by
    obtain ⟨i, hi, hm⟩ := (b3 a).mp ha
    have := ((g9 i hi).2 a hm).2.2.2.2
    rw [hca] at this
    rw [this]; exact hm
  have C : DelC G h t cap n bins N a (binOf cap hc) := ⟨h12, H, M3, b1, b2, b3, b4, b5, hn, haB, hb⟩
  refine c_J1_removeNode ⟨f1, fun v1 hv1 => ⟨fun hn' => (by rw [← hv1, g3] at hn'; cases hn'), fun a3 ha3 => ?_⟩⟩
  have et : a3 = t := by rw [← hv1, g3] at ha3; cases ha3; rfl
  subst et
  rw [g5]
  refine ⟨Or.inl g4, by omega, fun hz => by omega, fun _ => ⟨ib, fun v6 hv6 => ?_⟩⟩
  rw [gib, Int.toNat_natCast] at hv6
  rw [gib]
  have hch := (g9 _ hb).1
  cases hB : bins (binOf cap hc) with
  | nil => rw [hB] at haB; cases haB
  | cons p l =>
    rw [hB] at hch
    have hp : p ∈ bins (binOf cap hc) := by rw [hB]; exact List.mem_cons_self
    obtain ⟨n1, n2, n3, n4, n5⟩ := (g9 _ hb).2 p hp
    refine ⟨fun hn' => (by rw [← hv6, hch.1] at hn'; cases hn'), fun a8 ha8 => ?_⟩
    have e8 : a8 = p := by rw [← hv6, hch.1] at ha8; cases ha8; rfl
    subst e8
    by_cases e1 : a8 = a
    · subst e1
      refine ⟨(nodeK_f n1).1, n4, hr, fun hne => absurd hca hne, fun _ => ⟨(nodeK_f n1).2.1, fun v15 hv15 => ⟨fun _ => del_head C hB q, fun hne => ⟨fun hn' => (by cases hn'), fun a18 ha18 => ?_⟩⟩⟩⟩
      cases ha18
      rw [hv15] at E
      rcases E with E | E
      · exact absurd E hne
      · have := E (KQ Z mi_J1_removeNode (d + 4) 68 71 [some (tR (some h)), some (tI hc), some (tR (some k)), some (tR none), some (tI 0), some (tI 1), some (tR (some a3)), some (tR (some a8)), some (tI (cap : Int)), some (tI ((binOf cap hc : Nat) : Int)), some (tR none), none, some (tR v15), none] [] Q) (r_J1_removeNode_71 ⟨by decide, fun h' => absurd h' (by decide), fun _ => del_head C hB q⟩)
        exact ⟨hk, this⟩
    · have hne : fI G 143 a8 ≠ hc := fun h' => e1 (b4 a8 a ((b3 a8).mpr ⟨_, hb, hp⟩) ha (h'.trans hca.symm))
      have ha' : a ∈ l := by
        rw [hB] at haB
        rcases List.mem_cons.mp haB with h' | h'
        · exact absurd h'.symm e1
        · exact h'
      cases l with
      | nil => cases ha'
      | cons b l =>
        have hnx : fR G 146 a8 = some b := hch.2.1
        refine ⟨(nodeK_f n1).1, n4, hr, fun _ => ⟨(nodeK_f n1).2.2.2, fun v11 hv11 => ⟨fun hn' => (by rw [← hv11, hnx] at hn'; cases hn'), fun a13 ha13 => ⟨n1, ?_⟩⟩⟩, fun h' => absurd h' hne⟩
        have e13 : a13 = b := by rw [← hv11, hnx] at ha13; cases ha13; rfl
        subst e13
        exact del_chain C hr hk hca E q l [] a8 a13 none hB ⟨rfl, hch.2.2⟩ ha'
