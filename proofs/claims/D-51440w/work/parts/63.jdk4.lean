/-! THE JDK, 4: hash maps: putting -/
def ke_Node : Prop := True
theorem ke_node {k : Nat} (h : k = 19) : KE k "java/util/HashMap$Node" := ke_of (c := 18) (w := CL[18]) h rfl (Or.inl rfl)
theorem HM.int {G : GH} {h t cap f b : Nat} {w : Int} {bins : Nat → List Nat} (H : HM G h t cap bins) (hf : f ≠ 143) : HM (setI G f b w) h t cap bins := by
  obtain ⟨h1, h2, h3, h4, h5, h6, h7, h8, h9⟩ := H
  have e : ∀ c, fI (setI G f b w) 143 c = fI G 143 c := fun c => hI_ne (Or.inl (fun z => hf z.symm))
  refine ⟨h1, h2, h3, h4, h5, h6, h7, h8, fun i hi => ?_⟩
  obtain ⟨c1, c2⟩ := h9 i hi
  refine ⟨Chn.congr _ _ c1 (fun _ _ => rfl), fun a ha => ?_⟩
  obtain ⟨n1, n2, n3, n4, n5⟩ := c2 a ha
  exact ⟨n1, n2, n3, by rw [e]; exact n4, by rw [e]; exact n5⟩
theorem ke_nodeK {G : GH} {a : Nat} (h : NodeK G a) : KE (gK G a) "java/util/HashMap$Node" := by
  rcases h with h | h
  · exact ke_node h
  · exact ke_of (c := 19) (w := CL[19]) h rfl (Or.inr (by decide +kernel))
/-- what a map's insertion leaves: the new node a -/
def PutG (G G' : GH) (h k : Nat) (n : Nat) (N : Nat → Prop) (hc : Int) (v : Option Nat) (a : Nat) : Prop :=
  Md (Ow G h) G G' ∧ MapN G' h (n + 1) (fun c => N c ∨ c = a) ∧ gn G ≤ a ∧ a < gn G' ∧ NodeV G' a h hc (some k) v ∧ Lnk G' h ∧ ∀ c, N c → fI G' 143 c = fI G 143 c ∧ fR G' 144 c = fR G 144 c ∧ fR G' 145 c = fR G 145 c
section PUT
variable {Z : ZT} {d : Nat} {Q : TR → GH → Prop} {G0 : GH} {h k n : Nat} {hc : Int} {v : Option Nat} {N : Nat → Prop}
/-- behind the insertion: the size, and a larger row if need be -/
theorem put_tail {G3 : GH} {t cap a : Nat} {bins : Nat → List Nat} {lv : List (Option Value)} (L : Lnk G3 h) (H : HM G3 h t cap bins) (h122 : fI G3 122 h = (n : Int)) (h124 : fI G3 124 h = ((3 * cap / 4 : Nat) : Int)) (hle : n ≤ 3 * cap / 4) (hn : n ≤ 46)
    (hN : ∀ c, (N c ∨ c = a) ↔ ∃ i, i < cap ∧ c ∈ bins i) (hu : ∀ b c, (N b ∨ b = a) → (N c ∨ c = a) → fI G3 143 b = fI G3 143 c → b = c) (hnd : ∀ i, i < cap → (bins i).Nodup) (hz : Fz G3) (Rz : RzOK Z (d + 2) h)
    (q : ∀ G' : GH, Md (Ow G3 h) G3 G' → Rm 0 0 G3 G' h → MapN G' h (n + 1) (fun c => N c ∨ c = a) → (∀ c, (N c ∨ c = a) → fI G' 143 c = fI G3 143 c ∧ fR G' 144 c = fR G3 144 c ∧ fR G' 145 c = fR G3 145 c) → Lnk G' h → TW Z mi_J1_putVal (d + 3) 298 lv [] G' Q)
    (h291 : ∀ (G' : GH) (u : Option Nat), ((gK G' h = 12) → TC Z (d + 2) mi_J1_afterNodeInsertion [tR (some h), tI 1] G' (KQ Z mi_J1_putVal (d + 3) 295 298 lv [] Q)) ∧ ((gK G' h = 14) → TC Z (d + 2) mi_J5_afterNodeInsertion [tR (some h), tI 1] G' (KQ Z mi_J1_putVal (d + 3) 295 298 lv [] Q)) → (gK G' h = 12 ∨ gK G' h = 14) → TW Z mi_J1_putVal (d + 3) 291 lv [tR u] G' Q) :
    (kfb (gK G3 h) 123 = true) ∧ (kwb (gK G3 h) 123 = true) ∧ (kfb (gK G3 h) 122 = true) ∧ (kwb (gK G3 h) 122 = true) ∧ (kfb (gK G3 h) 124 = true) ∧ (inR (fI G3 122 h + 1)) ∧ (inR (fI G3 124 h)) ∧ (((fI G3 122 h + 1) ≤ fI G3 124 h → (gK G3 h = 12 ∨ gK G3 h = 14) ∧ ((gK G3 h = 12) → TC Z (d + 2) mi_J1_afterNodeInsertion [tR (some h), tI 1] (setI (setI (G3) 123 h (fI G3 123 h + 1)) 122 h (fI G3 122 h + 1)) (KQ Z mi_J1_putVal (d + 3) 295 298 lv [] Q)) ∧ ((gK G3 h = 14) → TC Z (d + 2) mi_J5_afterNodeInsertion [tR (some h), tI 1] (setI (setI (G3) 123 h (fI G3 123 h + 1)) 122 h (fI G3 122 h + 1)) (KQ Z mi_J1_putVal (d + 3) 295 298 lv [] Q))) ∧ (¬ (fI G3 122 h + 1) ≤ fI G3 124 h → (gK G3 h = 12 ∨ gK G3 h = 14) ∧ ((gK G3 h = 12 ∨ gK G3 h = 14) → TC Z (d + 2) mi_J1_resize [tR (some h)] (setI (setI (G3) 123 h (fI G3 123 h + 1)) 122 h (fI G3 122 h + 1)) (KQ Z mi_J1_putVal (d + 3) 288 291 lv [] Q)))) := by
  obtain ⟨g1, g2, g3, g4, g5, g6, g7, g8, g9⟩ := id H
  obtain ⟨f1, f2, f3, f4, w1, w2, w3, w4⟩ := mapK_f g1
  have m : Md (fun c => c = h) G3 (setI (setI G3 123 h (fI G3 123 h + 1)) 122 h (fI G3 122 h + 1)) := (Md.setI (P := fun c => c = h) Md.rf g2 (fun _ => rfl)).setI g2 (fun _ => rfl)
  have mo : Md (Ow G3 h) G3 (setI (setI G3 123 h (fI G3 123 h + 1)) 122 h (fI G3 122 h + 1)) := m.mono (fun c _ e => Or.inl e)
  have H4 : HM (setI (setI G3 123 h (fI G3 123 h + 1)) 122 h (fI G3 122 h + 1)) h t cap bins := (H.int (by decide)).int (by decide)
  have e143 : ∀ c, fI (setI (setI G3 123 h (fI G3 123 h + 1)) 122 h (fI G3 122 h + 1)) 143 c = fI G3 143 c := fun c => (hI_ne (Or.inl (by decide))).trans (hI_ne (Or.inl (by decide)))
  have e122 : fI (setI (setI G3 123 h (fI G3 123 h + 1)) 122 h (fI G3 122 h + 1)) 122 h = ((n + 1 : Nat) : Int) := by rw [hI_at, h122]; rfl
  have e124 : fI (setI (setI G3 123 h (fI G3 123 h + 1)) 122 h (fI G3 122 h + 1)) 124 h = ((3 * cap / 4 : Nat) : Int) := by rw [hI_ne (Or.inl (by decide)), hI_ne (Or.inl (by decide))]; exact h124
  have z4 : Fz (setI (setI G3 123 h (fI G3 123 h + 1)) 122 h (fI G3 122 h + 1)) := m.fz hz
  have s4n : gn (setI (setI G3 123 h (fI G3 123 h + 1)) 122 h (fI G3 122 h + 1)) = gn G3 := rfl
  have c4 : capM (setI (setI G3 123 h (fI G3 123 h + 1)) 122 h (fI G3 122 h + 1)) h = capM G3 h := rfl
  have s4s : gs (setI (setI G3 123 h (fI G3 123 h + 1)) 122 h (fI G3 122 h + 1)) = gs G3 := rfl
  have f4' : ∀ c, fR (setI (setI G3 123 h (fI G3 123 h + 1)) 122 h (fI G3 122 h + 1)) 144 c = fR G3 144 c ∧ fR (setI (setI G3 123 h (fI G3 123 h + 1)) 122 h (fI G3 122 h + 1)) 145 c = fR G3 145 c := fun c => ⟨rfl, rfl⟩
  have gP4 : ∀ c, gP (setI (setI G3 123 h (fI G3 123 h + 1)) 122 h (fI G3 122 h + 1)) c = gP G3 c := fun c => rfl
  have gK4 : gK (setI (setI G3 123 h (fI G3 123 h + 1)) 122 h (fI G3 122 h + 1)) h = 12 ∨ gK (setI (setI G3 123 h (fI G3 123 h + 1)) 122 h (fI G3 122 h + 1)) h = 14 := g1
  have gL4 : Lnk (setI (setI G3 123 h (fI G3 123 h + 1)) 122 h (fI G3 122 h + 1)) h := fun h14 => ⟨(hI_ne (Or.inl (by decide))).trans ((hI_ne (Or.inl (by decide))).trans (L h14).1), (hI_ne (Or.inl (by decide))).trans ((hI_ne (Or.inl (by decide))).trans (L h14).2.1), (L h14).2.2⟩
  refine ⟨f3, w3, f2, w2, f4, by omega, by omega, fun hlt => ⟨g1, jc_ani gK4 ?_⟩, fun hge => ⟨g1, fun _ => ?_⟩⟩
  · generalize setI (setI G3 123 h (fI G3 123 h + 1)) 122 h (fI G3 122 h + 1) = G4 at *
    exact q G4 mo ⟨by rw [c4]; omega, by rw [c4]; omega⟩ ⟨gK4, by rw [s4n]; exact g2, e122, Or.inr ⟨t, cap, bins, H4, e124, by omega, hN, fun b c hb hc' e => hu b c hb hc' (by rw [← e143, ← e143]; exact e), hnd⟩⟩ (fun c _ => ⟨e143 c, f4' c⟩) gL4
  · generalize setI (setI G3 123 h (fI G3 123 h + 1)) 122 h (fI G3 122 h + 1) = G4 at *
    have hcap : cap < 64 := by omega
    refine Rz G4 _ t cap (n + 1) bins (fun c => N c ∨ c = a) H4 hcap e122 (by omega) e124 hN (fun b c hb hc' e => hu b c hb hc' (by rw [← e143, ← e143]; exact e)) hnd z4 (fun G5 u m5 n5 s5 c5 M5 k5 l5 => ?_)
    have gk5 : gK G5 h = 12 ∨ gK G5 h = 14 := M5.1
    refine h291 G5 u (jc_ani gk5 (q G5 ?_ ?_ M5 (fun c hc' => ?_) (l5 gL4))) gk5
    · exact mo.trans' m5 (fun c _ hp => by unfold Ow at hp ⊢; rw [gP4] at hp; exact hp)
    · unfold Rm
      rw [c5, H.cap]
      rcases g8 with rfl | rfl | rfl
      · exact ⟨by show gn G5 + 1 ≤ gn G3 + 2 + 0; omega, by omega⟩
      · exact ⟨by show gn G5 + 0 ≤ gn G3 + 1 + 0; omega, by omega⟩
      · omega
    · obtain ⟨x1, x2, x3⟩ := k5 c hc'
      exact ⟨x1.trans (e143 c), x2.trans (f4' c).1, x3.trans (f4' c).2⟩
end PUT
def insB (bins : Nat → List Nat) (idx a : Nat) : Nat → List Nat := fun i => if i = idx then bins i ++ [a] else bins i
theorem HM.ins {G G3 : GH} {h t cap a : Nat} {bins : Nat → List Nat} {hc : Int} (H : HM G h t cap bins) (hr : inR hc) (hg : gn G ≤ gn G3) (h1 : ∀ c, c < gn G → gK G3 c = gK G c ∧ gL G3 c = gL G c ∧ gP G3 c = gP G c ∧ fI G3 143 c = fI G 143 c) (h2 : fR G3 120 h = some t) (h3 : a < gn G3 ∧ NodeK G3 a ∧ gP G3 a = h ∧ fI G3 143 a = hc)
    (h4 : ∀ i, i < cap → i ≠ binOf cap hc → aR G3 t i = aR G t i ∧ ∀ c ∈ bins i, fR G3 146 c = fR G 146 c) (h5 : Chn G3 (aR G3 t (binOf cap hc)) (bins (binOf cap hc) ++ [a])) : HM G3 h t cap (insB bins (binOf cap hc) a) := by
  obtain ⟨k1, k2, k3, k4, k5, k6, k7, k8, k9⟩ := H
  refine ⟨by rw [(h1 h k2).1]; exact k1, by omega, h2, (h1 t k7).1.trans k4, (h1 t k7).2.1.trans k5, (h1 t k7).2.2.1.trans k6, by omega, k8, fun i hi => ?_⟩
  obtain ⟨c1, c2⟩ := k9 i hi
  have old : ∀ b ∈ bins i, NodeK G3 b ∧ gP G3 b = h ∧ b < gn G3 ∧ inR (fI G3 143 b) ∧ binOf cap (fI G3 143 b) = i := fun b hb => by
    obtain ⟨n1, n2, n3, n4, n5⟩ := c2 b hb
    obtain ⟨e1, e2, e3, e4⟩ := h1 b n3
    exact ⟨by unfold NodeK; rw [e1]; exact n1, e3.trans n2, by omega, by rw [e4]; exact n4, by rw [e4]; exact n5⟩
  unfold insB
  by_cases e : i = binOf cap hc
  · rw [if_pos e]
    refine ⟨by rw [e]; exact h5, fun b hb => ?_⟩
    rcases List.mem_append.mp hb with hb | hb
    · exact old b hb
    · simp only [List.mem_singleton] at hb
      rw [hb]
      exact ⟨h3.2.1, h3.2.2.1, h3.1, by rw [h3.2.2.2]; exact hr, by rw [h3.2.2.2]; exact e.symm⟩
  · rw [if_neg e]
    obtain ⟨q1, q2⟩ := h4 i hi e
    exact ⟨by rw [q1]; exact Chn.congr _ _ c1 q2, old⟩
section PUT2
variable {Z : ZT} {d : Nat} {Q : TR → GH → Prop} {G : GH} {h k n t cap : Nat} {bins : Nat → List Nat} {hc : Int} {v : Option Nat} {N : Nat → Prop}
/-- a map with its row, into which a key of the hash hc is put -/
def PutC (G : GH) (h t cap n : Nat) (bins : Nat → List Nat) (hc : Int) (N : Nat → Prop) : Prop :=
  Lnk G h ∧ HM G h t cap bins ∧ inR hc ∧ fI G 122 h = (n : Int) ∧ fI G 124 h = ((3 * cap / 4 : Nat) : Int) ∧ n ≤ 3 * cap / 4 ∧ n ≤ 46 ∧ (∀ c, N c ↔ ∃ i, i < cap ∧ c ∈ bins i) ∧ (∀ b c, N b → N c → fI G 143 b = fI G 143 c → b = c) ∧ (∀ i, i < cap → (bins i).Nodup) ∧ Fz G ∧ (∀ c, N c → fI G 143 c ≠ hc) ∧ (bins (binOf cap hc)).length ≤ 7
/-- the insertion is done: what is left -/
theorem put_done (C : PutC G h t cap n bins hc N) {G3 : GH} {lv : List (Option Value)} (m : Md (Ow G h) G G3) (hn3 : gn G3 = gn G + 1) (hs3 : gs G3 ≤ gs G + 6) (L3 : Lnk G3 h) (H3 : HM G3 h t cap (insB bins (binOf cap hc) (gn G))) (e122 : fI G3 122 h = fI G 122 h) (e124 : fI G3 124 h = fI G 124 h)
    (hv : NodeV G3 (gn G) h hc (some k) v) (hold : ∀ c, N c → fI G3 143 c = fI G 143 c ∧ fR G3 144 c = fR G 144 c ∧ fR G3 145 c = fR G 145 c) (Rz : RzOK Z (d + 2) h)
    (q : ∀ G' : GH, PutG G G' h k n N hc v (gn G) → Rm 1 6 G G' h → TW Z mi_J1_putVal (d + 3) 298 lv [] G' Q)
    (h291 : ∀ (G' : GH) (u : Option Nat), ((gK G' h = 12) → TC Z (d + 2) mi_J1_afterNodeInsertion [tR (some h), tI 1] G' (KQ Z mi_J1_putVal (d + 3) 295 298 lv [] Q)) ∧ ((gK G' h = 14) → TC Z (d + 2) mi_J5_afterNodeInsertion [tR (some h), tI 1] G' (KQ Z mi_J1_putVal (d + 3) 295 298 lv [] Q)) → (gK G' h = 12 ∨ gK G' h = 14) → TW Z mi_J1_putVal (d + 3) 291 lv [tR u] G' Q) :
    (kfb (gK G3 h) 123 = true) ∧ (kwb (gK G3 h) 123 = true) ∧ (kfb (gK G3 h) 122 = true) ∧ (kwb (gK G3 h) 122 = true) ∧ (kfb (gK G3 h) 124 = true) ∧ (inR (fI G3 122 h + 1)) ∧ (inR (fI G3 124 h)) ∧ (((fI G3 122 h + 1) ≤ fI G3 124 h → (gK G3 h = 12 ∨ gK G3 h = 14) ∧ ((gK G3 h = 12) → TC Z (d + 2) mi_J1_afterNodeInsertion [tR (some h), tI 1] (setI (setI (G3) 123 h (fI G3 123 h + 1)) 122 h (fI G3 122 h + 1)) (KQ Z mi_J1_putVal (d + 3) 295 298 lv [] Q)) ∧ ((gK G3 h = 14) → TC Z (d + 2) mi_J5_afterNodeInsertion [tR (some h), tI 1] (setI (setI (G3) 123 h (fI G3 123 h + 1)) 122 h (fI G3 122 h + 1)) (KQ Z mi_J1_putVal (d + 3) 295 298 lv [] Q))) ∧ (¬ (fI G3 122 h + 1) ≤ fI G3 124 h → (gK G3 h = 12 ∨ gK G3 h = 14) ∧ ((gK G3 h = 12 ∨ gK G3 h = 14) → TC Z (d + 2) mi_J1_resize [tR (some h)] (setI (setI (G3) 123 h (fI G3 123 h + 1)) 122 h (fI G3 122 h + 1)) (KQ Z mi_J1_putVal (d + 3) 288 291 lv [] Q)))) := by
  obtain ⟨C1, H, hr, C2, C3, C4, C5, C6, C7, C8, C9, C10, C11⟩ := C
  have hh := H.2.1
  have hb : binOf cap hc < cap := by have := iand_cap H.2.2.2.2.2.2.2.1 hc; unfold binOf; omega
  have hnl : ∀ c, N c → c < gn G := fun c hc' => by
    obtain ⟨i, hi, hm⟩ := (C6 c).mp hc'
    exact ((H.2.2.2.2.2.2.2.2 i hi).2 c hm).2.2.1
  have hN : ∀ c, (N c ∨ c = gn G) ↔ ∃ i, i < cap ∧ c ∈ insB bins (binOf cap hc) (gn G) i := by
    intro c
    unfold insB
    constructor
    · rintro (hc' | rfl)
      · obtain ⟨i, hi, hm⟩ := (C6 c).mp hc'
        refine ⟨i, hi, ?_⟩
        split
        · exact List.mem_append.mpr (Or.inl hm)
        · exact hm
      · exact ⟨_, hb, by rw [if_pos rfl]; exact List.mem_append.mpr (Or.inr List.mem_cons_self)⟩
    · rintro ⟨i, hi, hm⟩
      split at hm
      · rcases List.mem_append.mp hm with hm | hm
        · exact Or.inl ((C6 c).mpr ⟨i, hi, hm⟩)
        · simp only [List.mem_singleton] at hm; exact Or.inr hm
      · exact Or.inl ((C6 c).mpr ⟨i, hi, hm⟩)
  refine put_tail (n := n) (N := N) (a := gn G) L3 H3 (e122.trans C2) (e124.trans C3) C4 C5 hN ?_ ?_ (m.fz C9) Rz (fun G' m' n' M' k' l' => ?_) h291
  · intro b c hb' hc' e
    rcases hb' with hb' | rfl <;> rcases hc' with hc' | rfl
    · rw [(hold b hb').1, (hold c hc').1] at e
      exact C7 b c hb' hc' e
    · rw [(hold b hb').1, hv.2.1] at e
      exact absurd e (C10 b hb')
    · rw [(hold c hc').1, hv.2.1] at e
      exact absurd e.symm (C10 c hc')
    · rfl
  · intro i hi
    unfold insB
    split
    · rw [List.nodup_append]
      refine ⟨C8 i hi, List.nodup_cons.mpr ⟨by simp, List.nodup_nil⟩, fun x hx y hy e => ?_⟩
      simp only [List.mem_singleton] at hy
      have := hnl x ((C6 x).mpr ⟨i, hi, hx⟩)
      omega
    · exact C8 i hi
  · have mm : Md (Ow G h) G G' := m.trans' m' (fun c hc' e => by
      unfold Ow at e ⊢
      rw [m.p hc'] at e
      exact e)
    obtain ⟨v1, v2, v3, v4⟩ := hv
    obtain ⟨x1, x2, x3⟩ := k' (gn G) (Or.inr rfl)
    refine q G' ⟨mm, M', Nat.le_refl _, by have := m'.le; omega, ⟨(m'.p (by omega)).trans v1, x1.trans v2, x2.trans v3, x3.trans v4⟩, l', fun c hc' => ?_⟩ (by unfold Rm at n' ⊢; rw [H3.cap] at n'; rw [H.cap]; omega)
    obtain ⟨y1, y2, y3⟩ := k' c (Or.inl hc')
    obtain ⟨w1, w2, w3⟩ := hold c hc'
    exact ⟨y1.trans w1, y2.trans w2, y3.trans w3⟩
/-- into an empty bin -/
theorem put_empty (C : PutC G h t cap n bins hc N) (he : bins (binOf cap hc) = []) (Rz : RzOK Z (d + 3) h) {r6 r7 : Option Nat} {x8 : Int} {o10 o11 o12 : Option Value}
    (q : ∀ G' : GH, PutG G G' h k n N hc v (gn G) → Rm 1 6 G G' h → Q (.inl (some (tR none))) G') :
    ((gK G h = 12) → TC Z (d + 3) mi_J1_newNode [tR (some h), tI hc, tR (some k), tR v, tR none] G (KQ Z mi_J1_putVal (d + 4) 56 59 [some (tR (some h)), some (tI hc), some (tR (some k)), some (tR v), some (tI 0), some (tI 1), some (tR r6), some (tR r7), some (tI x8), some (tI ((binOf cap hc : Nat) : Int)), o10, o11, o12] [tI ((binOf cap hc : Nat) : Int), tR (some t)] Q)) ∧ ((gK G h = 14) → TC Z (d + 3) mi_J5_newNode [tR (some h), tI hc, tR (some k), tR v, tR none] G (KQ Z mi_J1_putVal (d + 4) 56 59 [some (tR (some h)), some (tI hc), some (tR (some k)), some (tR v), some (tI 0), some (tI 1), some (tR r6), some (tR r7), some (tI x8), some (tI ((binOf cap hc : Nat) : Int)), o10, o11, o12] [tI ((binOf cap hc : Nat) : Int), tR (some t)] Q)) := by
  obtain ⟨C1, H, hr, C2, C3, C4, C5, C6, C7, C8, C9, C10, C11⟩ := id C
  obtain ⟨k1, k2, k3, k4, k5, k6, k7, k8, k9⟩ := id H
  have hb : binOf cap hc < cap := by have := iand_cap k8 hc; unfold binOf; omega
  refine jc_newN k1 k2 C1 (fun G2 m2 lk n2 s2 K2 v2 x2 l2 => r_J1_putVal_59 ⟨t, rfl, (m2.k k7).trans k4, by rw [m2.l k7, k5]; omega, fun b hb' => ?_, ?_⟩)
  · cases hb'; exact ke_nodeK K2
  rw [Int.toNat_natCast]
  have m3 : Md (Ow G h) G (setQ G2 t (binOf cap hc) (some (gn G))) := m2.setQ (by have := m2.le; omega) (fun _ => Or.inr k6)
  have H3 : HM (setQ G2 t (binOf cap hc) (some (gn G))) h t cap (insB bins (binOf cap hc) (gn G)) := by
    refine H.ins hr m3.le (fun c hc' => ⟨m3.k hc', m3.l hc', m3.p hc', (lk.2 c hc').1 143⟩) (((lk.2 h k2).2.1 120 (by decide) (by decide) (by decide) (by decide)).trans k3) ⟨by show gn G < gn G2; omega, K2, v2.1, v2.2.1⟩ (fun i hi hne => ⟨(hQ_ne (Or.inr hne)).trans ((lk.2 t k7).2.2 i), fun c hc' => (lk.2 c ((k9 i hi).2 c hc').2.2.1).2.1 146 (by decide) (by decide) (by decide) (by decide)⟩) ?_
    rw [he]
    exact ⟨hQ_at, x2⟩
  refine put_done (k := k) (v := v) C m3 n2 s2 l2 H3 ((lk.2 h k2).1 122) ((lk.2 h k2).1 124) v2 (fun c hc' => ?_) Rz (fun G' p1 p2 => r_J1_putVal_298 (q G' p1 p2)) (fun G' u hh hk => r_J1_putVal_291 ⟨hk, hh⟩)
  obtain ⟨i, hi, hm⟩ := (C6 c).mp hc'
  have s := lk.2 c ((k9 i hi).2 c hm).2.2.1
  exact ⟨s.1 143, s.2.1 144 (by decide) (by decide) (by decide) (by decide), s.2.1 145 (by decide) (by decide) (by decide) (by decide)⟩
/-- behind the nodes of a bin -/
theorem put_chain (C : PutC G h t cap n bins hc N) (Rz : RzOK Z (d + 3) h) {x8 : Int}
    (q : ∀ G' : GH, PutG G G' h k n N hc v (gn G) → Rm 1 6 G G' h → Q (.inl (some (tR none))) G') :
    ∀ (l pre : List Nat) (p : Nat) (o10 o11 : Option Value), bins (binOf cap hc) = pre ++ p :: l → Chn G (some p) (p :: l) → TW Z mi_J1_putVal (d + 4) 134 [some (tR (some h)), some (tI hc), some (tR (some k)), some (tR v), some (tI 0), some (tI 1), some (tR (some t)), some (tR (some p)), some (tI x8), some (tI ((binOf cap hc : Nat) : Int)), o10, o11, some (tI (pre.length : Int))] [] G Q := by
  obtain ⟨C1, H, hr, C2, C3, C4, C5, C6, C7, C8, C9, C10, C11⟩ := id C
  obtain ⟨k1, k2, k3, k4, k5, k6, k7, k8, k9⟩ := id H
  have hb : binOf cap hc < cap := by have := iand_cap k8 hc; unfold binOf; omega
  have nodeOf : ∀ c ∈ bins (binOf cap hc), NodeK G c ∧ gP G c = h ∧ c < gn G ∧ inR (fI G 143 c) ∧ fI G 143 c ≠ hc := fun c hm => by
    obtain ⟨n1, n2, n3, n4, n5⟩ := (k9 _ hb).2 c hm
    exact ⟨n1, n2, n3, n4, C10 c ((C6 c).mpr ⟨_, hb, hm⟩)⟩
  intro l
  induction l with
  | nil =>
    intro pre p o10 o11 hL hch
    have hp := nodeOf p (by rw [hL]; exact List.mem_append.mpr (Or.inr List.mem_cons_self))
    have hnx : fR G 146 p = none := hch.2
    have hlen := C11
    rw [hL] at hlen
    simp only [List.length_append, List.length_cons, List.length_nil] at hlen
    refine r_J1_putVal_134 ⟨p, rfl, (nodeK_f hp.1).2.2.2, fun v3 hv3 => ⟨fun _ => ⟨k1, jc_newN k1 k2 C1 (fun G2 m2 lk n2 s2 K2 v2 x2 l2 => r_J1_putVal_155 ⟨p, rfl, ?_, by omega, fun _ => r_J1_putVal_222 ⟨fun _ => ?_, fun a1 ha1 => by cases ha1⟩, fun hge => by omega⟩)⟩, fun a5 ha5 => by rw [← hv3, hnx] at ha5; cases ha5⟩⟩
    · have : NodeK G2 p := by unfold NodeK; rw [m2.k hp.2.2.1]; exact hp.1
      exact (nodeK_w this).2.2.2
    · have m3 : Md (Ow G h) G (setR G2 146 p (some (gn G))) := m2.setR (by have := m2.le; omega) (fun _ => Or.inr hp.2.1)
      have e143 : ∀ c, c < gn G → fI (setR G2 146 p (some (gn G))) 143 c = fI G 143 c := fun c hc' => (lk.2 c hc').1 143
      have nd := C8 _ hb
      have hne : p ≠ gn G := by have := hp.2.2.1; omega
      have H3 : HM (setR G2 146 p (some (gn G))) h t cap (insB bins (binOf cap hc) (gn G)) := by
        refine H.ins hr m3.le (fun c hc' => ⟨m3.k hc', m3.l hc', m3.p hc', e143 c hc'⟩) ((hR_ne (Or.inl (by decide))).trans (((lk.2 h k2).2.1 120 (by decide) (by decide) (by decide) (by decide)).trans k3)) ⟨by show gn G < gn G2; omega, K2, v2.1, v2.2.1⟩ (fun i hi hne' => ⟨(lk.2 t k7).2.2 i, fun c hc' => ?_⟩) ?_
        · obtain ⟨n1, n2', n3, n4, n5⟩ := (k9 i hi).2 c hc'
          have hcp : c ≠ p := fun e => by
            subst e
            have := (k9 _ hb).2 c (by rw [hL]; exact List.mem_append.mpr (Or.inr List.mem_cons_self))
            exact hne' (n5.symm.trans this.2.2.2.2)
          rw [hR_ne (Or.inr hcp)]
          exact (lk.2 c n3).2.1 146 (by decide) (by decide) (by decide) (by decide)
        · have hrow : aR (setR G2 146 p (some (gn G))) t (binOf cap hc) = aR G t (binOf cap hc) := (lk.2 t k7).2.2 _
          rw [hrow]
          have hlast : (bins (binOf cap hc)).getLast (by rw [hL]; simp) = p := by simp [hL]
          refine Chn.snoc _ _ (k9 _ hb).1 (by rw [hL]; simp) (fun c hc' hcl => ?_) (by rw [hlast]; exact hR_at) ((hR_ne (Or.inr hne.symm)).trans x2) nd
          rw [hlast] at hcl
          rw [hR_ne (Or.inr hcl)]
          exact (lk.2 c (nodeOf c hc').2.2.1).2.1 146 (by decide) (by decide) (by decide) (by decide)
      have e122 : fI (setR G2 146 p (some (gn G))) 122 h = fI G 122 h := (lk.2 h k2).1 122
      have e124 : fI (setR G2 146 p (some (gn G))) 124 h = fI G 124 h := (lk.2 h k2).1 124
      have v3' : NodeV (setR G2 146 p (some (gn G))) (gn G) h hc (some k) v := ⟨v2.1, v2.2.1, (hR_ne (Or.inl (by decide))).trans v2.2.2.1, (hR_ne (Or.inl (by decide))).trans v2.2.2.2⟩
      refine put_done (k := k) (v := v) C m3 n2 s2 (fun h14 => ⟨(l2 h14).1, (l2 h14).2.1, fun a ha => (l2 h14).2.2 a ((hR_ne (Or.inl (by decide))).symm.trans ha)⟩) H3 e122 e124 v3' (fun c hc' => ?_) Rz (fun G' p1 p2 => r_J1_putVal_298 (q G' p1 p2)) (fun G' u hh hk => r_J1_putVal_291 ⟨hk, hh⟩)
      obtain ⟨i, hi, hm⟩ := (C6 c).mp hc'
      have s := lk.2 c ((k9 i hi).2 c hm).2.2.1
      exact ⟨s.1 143, (hR_ne (Or.inl (by decide))).trans (s.2.1 144 (by decide) (by decide) (by decide) (by decide)), (hR_ne (Or.inl (by decide))).trans (s.2.1 145 (by decide) (by decide) (by decide) (by decide))⟩
  | cons b l ih =>
    intro pre p o10 o11 hL hch
    have hp := nodeOf p (by rw [hL]; exact List.mem_append.mpr (Or.inr List.mem_cons_self))
    have hb' := nodeOf b (by rw [hL]; exact List.mem_append.mpr (Or.inr (List.mem_cons_of_mem _ List.mem_cons_self)))
    have hnx : fR G 146 p = some b := hch.2.1
    refine r_J1_putVal_134 ⟨p, rfl, (nodeK_f hp.1).2.2.2, fun v3 hv3 => ⟨fun hn => (by rw [← hv3, hnx] at hn; cases hn), fun a5 ha5 => ?_⟩⟩
    have ea : a5 = b := by rw [← hv3, hnx] at ha5; cases ha5; rfl
    subst ea
    refine ⟨(nodeK_f hb'.1).1, hb'.2.2.2.1, hr, fun _ => ?_, fun heq => absurd heq hb'.2.2.2.2⟩
    have := ih (pre ++ [p]) a5 (some (tR (some a5))) none (by rw [hL]; simp) ⟨rfl, hch.2.2⟩
    rw [show ((pre ++ [p]).length : Int) = (pre.length : Int) + 1 by simp] at this
    exact this
/-- putting a new key -/
theorem jc_putVal (M : MapN G h n N) (L : Lnk G h) (hr : inR hc) (hn : n ≤ 46) (hnew : ∀ c, N c → fI G 143 c ≠ hc) (hbin : ∀ l : List Nat, l.Nodup → (∀ c ∈ l, N c ∧ binOf 16 (fI G 143 c) = binOf 16 hc) → l.length ≤ 7) (hz : Fz G) (Rz : RzOK Z (d + 3) h)
    (q : ∀ (G' : GH) (a : Nat), PutG G G' h k n N hc v a → Rm 1 6 G G' h → Q (.inl (some (tR none))) G') : TC Z (d + 4) mi_J1_putVal [tR (some h), tI hc, tR (some k), tR v, tI 0, tI 1] G Q := by
  obtain ⟨M1, M2, M3, M4⟩ := id M
  obtain ⟨f1, f2, f3, f4, w1, w2, w3, w4⟩ := mapK_f M1
  rcases M4 with ⟨a1, a2, a3, a4⟩ | ⟨t, cap, bins, H, b1, b2, b3, b4, b5⟩
  · refine c_J1_putVal ⟨f1, fun v1 hv1 => ⟨fun _ => ⟨M1, fun _ => ?_⟩, fun a3' ha3 => by rw [← hv1, a1] at ha3; cases ha3⟩⟩
    refine jc_resize0 M1 M2 a2 a1 hz (fun G1 m1 n1 s1 H1 e124 e122 e12x => r_J1_putVal_23 ⟨gn G, rfl, Or.inl H1.2.2.2.1, gn G, rfl, Or.inl H1.2.2.2.1, ?_, fun v5 hv5 => ?_⟩)
    · rw [H1.2.2.2.2.1]; exact iand_cap (Or.inl rfl) hc
    · have ib := iand_cap (cap := 16) (Or.inl rfl) hc
      have gib : iand ((16 : Nat) : Int) hc = iand ((16 : Nat) : Int) hc := rfl
      have gib : iand (((16 : Nat) : Int) - 1) hc = ((binOf 16 hc : Nat) : Int) := by unfold binOf; omega
      have hb : binOf 16 hc < 16 := by omega
      rw [H1.2.2.2.2.1] at hv5 ⊢
      rw [gib, Int.toNat_natCast] at hv5
      have hnone : v5 = none := hv5.symm.trans ((H1.2.2.2.2.2.2.2.2 _ hb).1)
      have L1 : Lnk G1 h := fun h14 => by
        obtain ⟨y1, y2, y3⟩ := L (by rw [← m1.k M2]; exact h14)
        refine ⟨(e12x 129 (by decide)).1.trans y1, (e12x 130 (by decide)).1.trans y2, fun a ha => ?_⟩
        obtain ⟨z1, z2, z3⟩ := y3 a ((e12x 128 (by decide)).2.symm.trans ha)
        exact ⟨(m1.k z3).trans z1, (m1.p z3).trans z2, by omega⟩
      have C : PutC G1 h (gn G) 16 n (fun _ => []) hc N := ⟨L1, H1, hr, by rw [e122]; exact M3, by rw [e124]; rfl, by omega, hn, fun c => ⟨fun hc' => absurd hc' (a4 c), fun ⟨i, hi, hm⟩ => by cases hm⟩, fun b c hb' => absurd hb' (a4 b), fun _ _ => List.nodup_nil, m1.fz hz, fun c hc' => absurd hc' (a4 c), Nat.zero_le _⟩
      refine ⟨fun _ => ⟨H1.1, ?_⟩, fun a7 ha7 => by rw [hnone] at ha7; cases ha7⟩
      rw [gib]
      refine put_empty C rfl Rz (fun G' P p2 => q G' (gn G1) ?_ (by
        unfold Rm at p2 ⊢
        rw [H1.cap] at p2
        rw [capM_0 a1]
        have p2' : gn G' + lvM (capM G' h) ≤ gn G1 + 2 + 1 := p2.1
        exact ⟨by show gn G' + lvM (capM G' h) ≤ gn G + 3 + 1; omega, by omega⟩))
      obtain ⟨P1, P2, P3, P4, P5, P6, P7⟩ := P
      exact ⟨(m1.mono (fun c _ e => Or.inl e)).trans' P1 (fun c hc' e => by unfold Ow at e; rw [m1.p hc'] at e; exact e), P2, by have := m1.le; omega, P4, P5, P6, fun c hc' => absurd hc' (a4 c)⟩
  · obtain ⟨k1, k2, k3, k4, k5, k6, k7, k8, k9⟩ := id H
    have ib := iand_cap k8 hc
    have gib : iand ((cap : Int) - 1) hc = ((binOf cap hc : Nat) : Int) := by unfold binOf; omega
    have hb : binOf cap hc < cap := by omega
    have hL : (bins (binOf cap hc)).length ≤ 7 := hbin _ (b5 _ hb) (fun c hc' => ⟨(b3 c).mpr ⟨_, hb, hc'⟩, bin16 k8 ((k9 _ hb).2 c hc').2.2.2.2⟩)
    have C : PutC G h t cap n bins hc N := ⟨L, H, hr, M3, b1, b2, hn, b3, b4, b5, hz, hnew, hL⟩
    refine c_J1_putVal ⟨f1, fun v1 hv1 => ⟨fun hn' => (by rw [← hv1, k3] at hn'; cases hn'), fun a3' ha3 => ?_⟩⟩
    have et : a3' = t := by rw [← hv1, k3] at ha3; cases ha3; rfl
    subst et
    rw [k5]
    refine ⟨Or.inl k4, by omega, fun _ => ⟨ib, fun v6 hv6 => ?_⟩, fun hz0 => by omega⟩
    rw [gib, Int.toNat_natCast] at hv6
    rw [gib]
    have hch := (k9 _ hb).1
    cases hB : bins (binOf cap hc) with
    | nil =>
      rw [hB] at hch
      have hch : aR G a3' (binOf cap hc) = none := hch
      refine ⟨fun _ => ⟨k1, put_empty C hB Rz (fun G' P p2 => q G' (gn G) P p2)⟩, fun a8 ha8 => by rw [← hv6, hch] at ha8; cases ha8⟩
    | cons p l =>
      rw [hB] at hch
      refine ⟨fun hn' => (by rw [← hv6, hch.1] at hn'; cases hn'), fun a8 ha8 => ?_⟩
      have ea : a8 = p := by rw [← hv6, hch.1] at ha8; cases ha8; rfl
      subst ea
      have hm : a8 ∈ bins (binOf cap hc) := by rw [hB]; exact List.mem_cons_self
      obtain ⟨n1, n2, n3, n4, n5⟩ := (k9 _ hb).2 a8 hm
      refine ⟨(nodeK_f n1).1, n4, hr, fun _ => ⟨n1, ?_⟩, fun heq => absurd heq (hnew a8 ((b3 a8).mpr ⟨_, hb, hm⟩))⟩
      exact put_chain C Rz (fun G' P p2 => q G' (gn G) P p2) l [] a8 _ _ hB ⟨rfl, hch.2⟩
end PUT2
