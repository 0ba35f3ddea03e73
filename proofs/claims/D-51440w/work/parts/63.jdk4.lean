/-! THE JDK, 4: hash maps: putting -/
def ke_Node : Prop := True
theorem ke_node {k : Nat} (h : k = 19) : KE k "java/util/HashMap$Node" := ke_of (c := 18) (w := CL[18]) h rfl (Or.inl rfl)
theorem HM.int {G : GH} {h t cap f b : Nat} {w : Int} {bins : Nat → List Nat} (H : HM G h t cap bins) (hf : f ≠ 143) : HM (setI G f b w) h t cap bins := by
  obtain ⟨h1, h2, h3, h4, h5, h6, h7, h8, h9⟩ := H
  have e : ∀ c, fI (setI G f b w) 143 c = fI G 143 c := fun c => hI_ne (Or.inl (fun z => hf z.symm))
  refine ⟨h1, h2, h3, h4, h5, h6, h7, h8, fun i hi => ?_⟩
  obtain ⟨c1, c2⟩ := h9 i hi
  refine ⟨Chn.congr _ _ c1 (fun _ _ => rfl), fun a ha => ?_⟩
  obtain ⟨n1, n2, n3, n4, n5⟩ := c2 a ha
  exact ⟨n1, n2, n3, by rw [e]; exact n4, by rw [e]; exact n5⟩
/-- what a map's insertion leaves: the new node a -/
def PutG (G G' : GH) (h k : Nat) (n : Nat) (N : Nat → Prop) (hc : Int) (v : Option Nat) (a : Nat) : Prop :=
  Md (fun c => Ow G h c ∨ c = k) G G' ∧ MapN G' h (n + 1) (fun c => N c ∨ c = a) ∧ gn G ≤ a ∧ a < gn G' ∧ NodeV G' a h hc (some k) v ∧ ∀ c, N c → fI G' 143 c = fI G 143 c ∧ fR G' 144 c = fR G 144 c ∧ fR G' 145 c = fR G 145 c
section PUT
variable {Z : ZT} {d : Nat} {Q : TR → GH → Prop} {G0 : GH} {h k n : Nat} {hc : Int} {v : Option Nat} {N : Nat → Prop}
/-- behind the insertion: the size, and a larger row if need be -/
theorem put_tail {G3 : GH} {t cap a : Nat} {bins : Nat → List Nat} {lv : List (Option Value)} (h12 : gK G3 h = 12) (H : HM G3 h t cap bins) (h122 : fI G3 122 h = (n : Int)) (h124 : fI G3 124 h = ((3 * cap / 4 : Nat) : Int)) (hle : n ≤ 3 * cap / 4) (hn : n ≤ 46)
    (hN : ∀ c, (N c ∨ c = a) ↔ ∃ i, i < cap ∧ c ∈ bins i) (hu : ∀ b c, (N b ∨ b = a) → (N c ∨ c = a) → fI G3 143 b = fI G3 143 c → b = c) (hnd : ∀ i, i < cap → (bins i).Nodup) (hz : Fz G3) (Rz : RzOK Z (d + 1) h)
    (q : ∀ G' : GH, Md (Ow G3 h) G3 G' → gn G' ≤ gn G3 + 1 → gs G' ≤ gs G3 + 64 → MapN G' h (n + 1) (fun c => N c ∨ c = a) → (∀ c, (N c ∨ c = a) → fI G' 143 c = fI G3 143 c ∧ fR G' 144 c = fR G3 144 c ∧ fR G' 145 c = fR G3 145 c) → TW Z mi_J1_putVal (d + 2) 298 lv [] G' Q)
    (h291 : ∀ (G' : GH) (u : Option Nat), TC Z (d + 1) mi_J1_afterNodeInsertion [tR (some h), tI 1] G' (KQ Z mi_J1_putVal (d + 2) 295 298 lv [] Q) → gK G' h = 12 → TW Z mi_J1_putVal (d + 2) 291 lv [tR u] G' Q) :
    (kfb (gK G3 h) 123 = true) ∧ (kwb (gK G3 h) 123 = true) ∧ (kfb (gK G3 h) 122 = true) ∧ (kwb (gK G3 h) 122 = true) ∧ (kfb (gK G3 h) 124 = true) ∧ (inR (fI G3 122 h + 1)) ∧ (inR (fI G3 124 h)) ∧ (((fI G3 122 h + 1) ≤ fI G3 124 h → (gK G3 h = 12 ∨ gK G3 h = 14) ∧ ((gK G3 h = 12) → TC Z (d + 1) mi_J1_afterNodeInsertion [tR (some h), tI 1] (setI (setI (G3) 123 h (fI G3 123 h + 1)) 122 h (fI G3 122 h + 1)) (KQ Z mi_J1_putVal (d + 2) 295 298 lv [] Q)) ∧ ((gK G3 h = 14) → TC Z (d + 1) mi_J5_afterNodeInsertion [tR (some h), tI 1] (setI (setI (G3) 123 h (fI G3 123 h + 1)) 122 h (fI G3 122 h + 1)) (KQ Z mi_J1_putVal (d + 2) 295 298 lv [] Q))) ∧ (¬ (fI G3 122 h + 1) ≤ fI G3 124 h → (gK G3 h = 12 ∨ gK G3 h = 14) ∧ ((gK G3 h = 12 ∨ gK G3 h = 14) → TC Z (d + 1) mi_J1_resize [tR (some h)] (setI (setI (G3) 123 h (fI G3 123 h + 1)) 122 h (fI G3 122 h + 1)) (KQ Z mi_J1_putVal (d + 2) 288 291 lv [] Q)))) := by
  obtain ⟨g1, g2, g3, g4, g5, g6, g7, g8, g9⟩ := id H
  obtain ⟨f1, f2, f3, f4, w1, w2, w3, w4⟩ := mapK_f g1
  have m : Md (fun c => c = h) G3 (setI (setI G3 123 h (fI G3 123 h + 1)) 122 h (fI G3 122 h + 1)) := (Md.setI (P := fun c => c = h) Md.rf g2 (fun _ => rfl)).setI g2 (fun _ => rfl)
  have mo : Md (Ow G3 h) G3 (setI (setI G3 123 h (fI G3 123 h + 1)) 122 h (fI G3 122 h + 1)) := m.mono (fun c _ e => Or.inl e)
  have H4 : HM (setI (setI G3 123 h (fI G3 123 h + 1)) 122 h (fI G3 122 h + 1)) h t cap bins := (H.int (by decide)).int (by decide)
  have e143 : ∀ c, fI (setI (setI G3 123 h (fI G3 123 h + 1)) 122 h (fI G3 122 h + 1)) 143 c = fI G3 143 c := fun c => (hI_ne (Or.inl (by decide))).trans (hI_ne (Or.inl (by decide)))
  have e122 : fI (setI (setI G3 123 h (fI G3 123 h + 1)) 122 h (fI G3 122 h + 1)) 122 h = ((n + 1 : Nat) : Int) := by rw [hI_at, h122]; rfl
  have e124 : fI (setI (setI G3 123 h (fI G3 123 h + 1)) 122 h (fI G3 122 h + 1)) 124 h = ((3 * cap / 4 : Nat) : Int) := by rw [hI_ne (Or.inl (by decide)), hI_ne (Or.inl (by decide))]; exact h124
  have z4 : Fz (setI (setI G3 123 h (fI G3 123 h + 1)) 122 h (fI G3 122 h + 1)) := m.fz hz
  have s4n : gn (setI (setI G3 123 h (fI G3 123 h + 1)) 122 h (fI G3 122 h + 1)) = gn G3 := rfl
  have s4s : gs (setI (setI G3 123 h (fI G3 123 h + 1)) 122 h (fI G3 122 h + 1)) = gs G3 := rfl
  have f4' : ∀ c, fR (setI (setI G3 123 h (fI G3 123 h + 1)) 122 h (fI G3 122 h + 1)) 144 c = fR G3 144 c ∧ fR (setI (setI G3 123 h (fI G3 123 h + 1)) 122 h (fI G3 122 h + 1)) 145 c = fR G3 145 c := fun c => ⟨rfl, rfl⟩
  have gP4 : ∀ c, gP (setI (setI G3 123 h (fI G3 123 h + 1)) 122 h (fI G3 122 h + 1)) c = gP G3 c := fun c => rfl
  have gK4 : gK (setI (setI G3 123 h (fI G3 123 h + 1)) 122 h (fI G3 122 h + 1)) h = 12 := h12
  refine ⟨f3, w3, f2, w2, f4, by omega, by omega, fun hlt => ⟨g1, fun _ => c_J1_afterNodeInsertion ?_, fun h14 => by omega⟩, fun hge => ⟨g1, fun _ => ?_⟩⟩
  · generalize setI (setI G3 123 h (fI G3 123 h + 1)) 122 h (fI G3 122 h + 1) = G4 at *
    exact q G4 mo (by omega) (by omega) ⟨Or.inl gK4, by rw [s4n]; exact g2, e122, Or.inr ⟨t, cap, bins, H4, e124, by omega, hN, fun b c hb hc' e => hu b c hb hc' (by rw [← e143, ← e143]; exact e), hnd⟩⟩ (fun c _ => ⟨e143 c, f4' c⟩)
  · generalize setI (setI G3 123 h (fI G3 123 h + 1)) 122 h (fI G3 122 h + 1) = G4 at *
    have hcap : cap < 64 := by omega
    refine Rz G4 _ t cap (n + 1) bins (fun c => N c ∨ c = a) H4 hcap e122 (by omega) e124 hN (fun b c hb hc' e => hu b c hb hc' (by rw [← e143, ← e143]; exact e)) hnd z4 (fun G5 u m5 n5 s5 M5 k5 => ?_)
    have gk5 : gK G5 h = 12 := (m5.k (by rw [s4n]; exact g2)).trans gK4
    refine h291 G5 u (c_J1_afterNodeInsertion (q G5 ?_ (by omega) (by omega) M5 (fun c hc' => ?_))) gk5
    · exact mo.trans' m5 (fun c _ hp => by unfold Ow at hp ⊢; rw [gP4] at hp; exact hp)
    · obtain ⟨x1, x2, x3⟩ := k5 c hc'
      exact ⟨x1.trans (e143 c), x2.trans (f4' c).1, x3.trans (f4' c).2⟩
end PUT
