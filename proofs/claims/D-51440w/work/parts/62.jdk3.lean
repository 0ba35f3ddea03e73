/-! THE JDK, 3: hash maps: new, putting what is not there -/
/-- what a new node holds -/
def NodeV (G : GH) (a h : Nat) (hc : Int) (k v : Option Nat) : Prop := gP G a = h ∧ fI G 143 a = hc ∧ fR G 144 a = k ∧ fR G 145 a = v
theorem jc_newNode {Z : ZT} {d : Nat} {G : GH} {Q : TR → GH → Prop} {h : Nat} {hc : Int} {k v nx : Option Nat} (hh : h < gn G) (q : ∀ G', Md (fun _ => False) G G' → gn G' = gn G + 1 → gs G' = gs G + 4 → gK G' (gn G) = 19 → NodeV G' (gn G) h hc k v → fR G' 146 (gn G) = nx → Q (.inl (some (tR (some (gn G))))) G') : TC Z (d + 2) mi_J1_newNode [tR (some h), tI hc, tR k, tR v, tR nx] G Q := by
  have k0 : gK (newG G 19 0 h 4) (gn G) = 19 := gK_new
  obtain ⟨w1, w2, w3, w4⟩ := nodeK_w (G := newG G 19 0 h 4) (Or.inl k0)
  refine c_J1_newNode h (c_J23_init ⟨w1, w2, w3, w4, r_J1_newNode_12 ?_⟩)
  have hb : gn G < gn (newG G 19 0 h 4) := Nat.lt_succ_self _
  have hp : gn G < gn G → False := Nat.lt_irrefl _
  refine q _ (((((Md.rf.new (Nat.le_of_lt hh)).setI hb hp).setR hb hp).setR hb hp).setR hb hp) rfl rfl k0 ⟨gP_new (N := 4), ?_, ?_, ?_⟩ hR_at
  · exact hI_at
  · show fR (setR (setR (setR (setI (newG G 19 0 h 4) 143 (gn G) hc) 144 (gn G) k) 145 (gn G) v) 146 (gn G) nx) 144 (gn G) = k
    rw [hR_ne (Or.inl (by decide)), hR_ne (Or.inl (by decide)), hR_at]
  · show fR (setR (setR (setR (setI (newG G 19 0 h 4) 143 (gn G) hc) 144 (gn G) k) 145 (gn G) v) 146 (gn G) nx) 145 (gn G) = v
    rw [hR_ne (Or.inl (by decide)), hR_at]
/-- what only links entries may change -/
def Lk (G G' : GH) : Prop := gn G ≤ gn G' ∧ ∀ c, c < gn G → (∀ f, fI G' f c = fI G f c) ∧ (∀ f, f ≠ 127 → f ≠ 128 → f ≠ 147 → f ≠ 148 → fR G' f c = fR G f c) ∧ ∀ i, aR G' c i = aR G c i
/-- a linked map's own fields -/
def Lnk (G : GH) (h : Nat) : Prop := gK G h = 14 → fI G 129 h = 0 ∧ fI G 130 h = 0 ∧ ∀ a, fR G 128 h = some a → gK G a = 20 ∧ gP G a = h ∧ a < gn G
theorem Lk.md {G G' : GH} (m : Md (fun _ => False) G G') : Lk G G' := ⟨m.le, fun c hc => ⟨fun f => ((m.sm hc id).2.2.2.1 f).1, fun f _ _ _ _ => ((m.sm hc id).2.2.2.1 f).2, fun i => ((m.sm hc id).2.2.2.2 i).2⟩⟩
theorem Lk.trans {A B C : GH} (h : Lk A B) (k : Lk B C) : Lk A C := ⟨Nat.le_trans h.1 k.1, fun c hc => by
  obtain ⟨a1, a2, a3⟩ := h.2 c hc
  obtain ⟨b1, b2, b3⟩ := k.2 c (Nat.lt_of_lt_of_le hc h.1)
  exact ⟨fun f => (b1 f).trans (a1 f), fun f p q r s => (b2 f p q r s).trans (a2 f p q r s), fun i => (b3 i).trans (a3 i)⟩⟩
theorem Lk.setR {A G : GH} (h : Lk A G) {f b : Nat} {r : Option Nat} (hf : f = 127 ∨ f = 128 ∨ f = 147 ∨ f = 148) : Lk A (setR G f b r) := h.trans ⟨Nat.le_refl _, fun c _ => ⟨fun _ => rfl, fun g p q r s => hR_ne (Or.inl (by omega)), fun _ => rfl⟩⟩
theorem jc_nodeInit {Z : ZT} {d : Nat} {G : GH} {Q : TR → GH → Prop} {a h : Nat} {hc : Int} {k v nx : Option Nat} (nk : NodeK G a) (ha : a < gn G) (hp : gP G a = h) (q : ∀ G', Md (fun c => c = a) G G' → gn G' = gn G → gs G' = gs G → NodeV G' a h hc k v → fR G' 146 a = nx → Q (.inl none) G') : TC Z (d + 1) mi_J23_init [tR (some a), tI hc, tR k, tR v, tR nx] G Q := by
  obtain ⟨w1, w2, w3, w4⟩ := nodeK_w nk
  refine c_J23_init ⟨w1, w2, w3, w4, q _ ((((Md.setI (P := fun c => c = a) Md.rf ha (fun _ => rfl)).setR ha (fun _ => rfl)).setR ha (fun _ => rfl)).setR ha (fun _ => rfl)) rfl rfl ⟨hp, hI_at, by rw [hR_ne (Or.inl (by decide)), hR_ne (Or.inl (by decide)), hR_at], by rw [hR_ne (Or.inl (by decide)), hR_at]⟩ hR_at⟩
/-- a node, of a plain or of a linked map -/
theorem jc_newN {Z : ZT} {d : Nat} {G : GH} {Q : TR → GH → Prop} {h : Nat} {hc : Int} {k v nx : Option Nat} (hk : gK G h = 12 ∨ gK G h = 14) (hh : h < gn G) (L : Lnk G h) (q : ∀ G', Md (Ow G h) G G' → Lk G G' → gn G' = gn G + 1 → gs G' ≤ gs G + 6 → NodeK G' (gn G) → NodeV G' (gn G) h hc k v → fR G' 146 (gn G) = nx → Lnk G' h → Q (.inl (some (tR (some (gn G))))) G') :
    ((gK G h = 12) → TC Z (d + 3) mi_J1_newNode [tR (some h), tI hc, tR k, tR v, tR nx] G Q) ∧ ((gK G h = 14) → TC Z (d + 3) mi_J5_newNode [tR (some h), tI hc, tR k, tR v, tR nx] G Q) := by
  refine ⟨fun h12 => jc_newNode hh (fun G' m n s K V x => q G' (m.mono (fun c _ e => e.elim)) (Lk.md m) n (by omega) (Or.inl K) V x (fun h14 => by rw [m.k hh] at h14; omega)), fun h14 => ?_⟩
  obtain ⟨l1, l2, l3⟩ := L h14
  have k0 : gK (newG G 20 0 h 6) (gn G) = 20 := gK_new
  have kh : gK (newG G 20 0 h 6) h = 14 := by rw [gK_old (by omega)]; exact h14
  have n00 : gn (newG G 20 0 h 6) = gn G + 1 := rfl
  have s00 : gs (newG G 20 0 h 6) = gs G + 6 := rfl
  have p00 : gP (newG G 20 0 h 6) (gn G) = h := gP_new (N := 6)
  have m00 : Md (fun _ => False) G (newG G 20 0 h 6) := Md.rf.new (Nat.le_of_lt hh)
  refine c_J5_newNode h ?_
  generalize newG G 20 0 h 6 = G0 at *
  refine c_J24_init (jc_nodeInit (Or.inr k0) (by omega) p00 (fun G1 m01 n01 s01 V0 x0 => r_J24_init_9 (r_J5_newNode_12 ⟨(m01.k (by omega)).trans kh, ?_⟩)))
  have m0 : Md (fun _ => False) G G1 := m00.trans' m01 (fun c hc' e => by omega)
  have n0 : gn G1 = gn G + 1 := by omega
  have s0 : gs G1 = gs G + 6 := by omega
  have K0 : gK G1 (gn G) = 20 := (m01.k (by omega)).trans k0
  have hp : gn G < gn G → Ow G h (gn G) := fun e => absurd e (Nat.lt_irrefl _)
  have s := m0.sm hh id
  have g130 : fI G1 130 h = 0 := (s.2.2.2.1 130).1.trans l2
  have g129 : fI G1 129 h = 0 := (s.2.2.2.1 129).1.trans l1
  have g128 : fR G1 128 h = fR G 128 h := (s.2.2.2.1 128).2
  have h14' : gK G1 h = 14 := (m0.k hh).trans h14
  have hh1 : h < gn G1 := by omega
  have pN : gP G1 (gn G) = h := V0.1
  have mo : Md (Ow G h) G G1 := m0.mono (fun c _ e => e.elim)
  refine c_J5_linkNodeAtEnd ⟨by rw [h14']; decide +kernel, by rw [g130]; decide, fun _ => ⟨by rw [h14']; decide +kernel, fun v2 hv2 => ⟨h14', fun hn => ?_, fun a4 ha4 => ?_⟩⟩, fun e => by rw [g130] at e; exact absurd e (by decide)⟩
  · refine r_J5_newNode_20 (q _ ((mo.setR hh1 (fun _ => Or.inl rfl)).setR hh1 (fun _ => Or.inl rfl)) (((Lk.md m0).setR (by decide)).setR (by decide)) n0 (Nat.le_of_eq s0) (Or.inr K0) ?_ ?_ ?_)
    · exact ⟨V0.1, V0.2.1, (hR_ne (Or.inl (by decide))).trans ((hR_ne (Or.inl (by decide))).trans V0.2.2.1), (hR_ne (Or.inl (by decide))).trans ((hR_ne (Or.inl (by decide))).trans V0.2.2.2)⟩
    · exact (hR_ne (Or.inl (by decide))).trans ((hR_ne (Or.inl (by decide))).trans x0)
    · refine fun _ => ⟨g129, g130, fun a ha => ?_⟩
      have e : a = gn G := by rw [hR_ne (Or.inl (by decide)), hR_at] at ha; cases ha; rfl
      rw [e]
      exact ⟨K0, pN, by show gn G < gn G1; omega⟩
  · obtain ⟨t1, t2, t3⟩ := l3 a4 (by rw [← g128, hv2]; exact ha4)
    refine ⟨gn G, rfl, K0, (m0.k t3).trans t1, r_J5_newNode_20 (q _ (((mo.setR hh1 (fun _ => Or.inl rfl)).setR (by show gn G < gn G1; omega) hp).setR (by show a4 < gn G1; omega) (fun _ => Or.inr t2)) ((((Lk.md m0).setR (by decide)).setR (by decide)).setR (by decide)) n0 (Nat.le_of_eq s0) (Or.inr K0) ?_ ?_ ?_)⟩
    · exact ⟨V0.1, V0.2.1, (hR_ne (Or.inl (by decide))).trans ((hR_ne (Or.inl (by decide))).trans ((hR_ne (Or.inl (by decide))).trans V0.2.2.1)), (hR_ne (Or.inl (by decide))).trans ((hR_ne (Or.inl (by decide))).trans ((hR_ne (Or.inl (by decide))).trans V0.2.2.2))⟩
    · exact (hR_ne (Or.inl (by decide))).trans ((hR_ne (Or.inl (by decide))).trans ((hR_ne (Or.inl (by decide))).trans x0))
    · refine fun _ => ⟨g129, g130, fun a ha => ?_⟩
      have e : a = gn G := by rw [hR_ne (Or.inl (by decide)), hR_ne (Or.inl (by decide)), hR_at] at ha; cases ha; rfl
      rw [e]
      exact ⟨K0, pN, by show gn G < gn G1; omega⟩
/-- behind an insertion nothing is done -/
theorem jc_ani {Z : ZT} {d : Nat} {G : GH} {Q : TR → GH → Prop} {h : Nat} (hk : gK G h = 12 ∨ gK G h = 14) (q : Q (.inl none) G) : ((gK G h = 12) → TC Z (d + 2) mi_J1_afterNodeInsertion [tR (some h), tI 1] G Q) ∧ ((gK G h = 14) → TC Z (d + 2) mi_J5_afterNodeInsertion [tR (some h), tI 1] G Q) := by
  refine ⟨fun _ => c_J1_afterNodeInsertion q, fun h14 => c_J5_afterNodeInsertion ⟨by decide, fun e => absurd e (by decide), fun _ => ⟨by rw [h14]; decide +kernel, fun v2 _ => ⟨fun _ => q, fun a4 _ => ⟨h14, c_J5_removeEldestEntry (r_J5_afterNodeInsertion_18 ⟨by decide, fun _ => q, fun e => absurd rfl e⟩)⟩⟩⟩⟩⟩
/-- a map of n nodes N -/
def MapN (G : GH) (h : Nat) (n : Nat) (N : Nat → Prop) : Prop :=
  (gK G h = 12 ∨ gK G h = 14) ∧ h < gn G ∧ fI G 122 h = (n : Int) ∧
    ((fR G 120 h = none ∧ fI G 124 h = 0 ∧ n = 0 ∧ ∀ a, ¬ N a) ∨
      ∃ t cap bins, HM G h t cap bins ∧ fI G 124 h = ((3 * cap / 4 : Nat) : Int) ∧ n ≤ 3 * cap / 4 ∧ (∀ a, N a ↔ ∃ i, i < cap ∧ a ∈ bins i) ∧ (∀ a b, N a → N b → fI G 143 a = fI G 143 b → a = b) ∧ ∀ i, i < cap → (bins i).Nodup)
theorem jc_minit {Z : ZT} {d : Nat} {G : GH} {Q : TR → GH → Prop} {h : Nat} (hk : gK G h = 12) (hh : h < gn G) (z122 : fI G 122 h = 0) (z124 : fI G 124 h = 0) (z120 : fR G 120 h = none) (q : ∀ G', Md (fun c => c = h) G G' → gn G' = gn G → gs G' = gs G → MapN G' h 0 (fun _ => False) → Q (.inl none) G') : TC Z (d + 2) mi_J1_init [tR (some h)] G Q := by
  refine c_J1_init (c_J0_init (r_J1_init_4 ⟨by rw [hk]; decide +kernel, ?_⟩))
  have m : Md (fun c => c = h) G (setI G 125 h (UInt32.toNat (1061158912 : UInt32) : Int)) := Md.setI (P := fun c => c = h) Md.rf hh (fun _ => rfl)
  exact q _ m rfl rfl ⟨Or.inl hk, hh, (hI_ne (Or.inl (by decide))).trans z122, Or.inl ⟨z120, (hI_ne (Or.inl (by decide))).trans z124, rfl, fun _ => id⟩⟩
/-- the first row -/
theorem jc_resize0 {Z : ZT} {d : Nat} {G : GH} {Q : TR → GH → Prop} {h : Nat} (hk : gK G h = 12 ∨ gK G h = 14) (hh : h < gn G) (z124 : fI G 124 h = 0) (z120 : fR G 120 h = none) (hz : Fz G) (q : ∀ G', Md (fun c => c = h) G G' → gn G' = gn G + 1 → gs G' = gs G + 16 → HM G' h (gn G) 16 (fun _ => []) → fI G' 124 h = 12 → fI G' 122 h = fI G 122 h → (∀ f, f ≠ 120 ∧ f ≠ 124 → fI G' f h = fI G f h ∧ fR G' f h = fR G f h) → Q (.inl (some (tR (some (gn G))))) G') : TC Z (d + 1) mi_J1_resize [tR (some h)] G Q := by
  obtain ⟨f1, f2, f3, f4, w1, w2, w3, w4⟩ := mapK_f hk
  refine c_J1_resize ⟨f1, fun v1 hv1 => ⟨fun _ => ⟨f4, by rw [z124]; decide, fun _ => ?_, fun hn => by rw [z124] at hn; exact absurd (Int.le_refl 0) hn⟩, fun a3 ha3 => by rw [← hv1, z120] at ha3; cases ha3⟩⟩
  have hne : h ≠ gn G := by omega
  refine r_J1_resize_85 h ⟨by decide, fun _ => ⟨w4, by decide, ?_, fun _ => ?_, fun a2 ha2 => by cases ha2⟩, fun hn => absurd hn (by decide)⟩
  · show kwb (gK (newG (setI G 124 h 12) 109 (16 : Int).toNat h (16 : Int).toNat) h) 120 = true
    rw [gK_old (by show h ≠ gn G; omega)]
    exact w1
  · have m : Md (fun c => c = h) G (setR (newG (setI G 124 h 12) 109 16 h 16) 120 h (some (gn G))) := ((Md.setI (P := fun c => c = h) Md.rf hh (fun _ => rfl)).new (Nat.le_of_lt hh)).setR (by show h < gn G + 1; omega) (fun _ => rfl)
    refine q _ m rfl rfl ⟨?_, ?_, hR_at, gK_new (G := setI G 124 h 12) (N := 16), gL_new (G := setI G 124 h 12) (N := 16), gP_new (G := setI G 124 h 12) (N := 16), ?_, Or.inl rfl, fun i hi => ⟨?_, fun a ha => by cases ha⟩⟩ ?_ ?_ (fun f hf => ⟨hI_ne (Or.inl hf.2), hR_ne (Or.inl hf.1)⟩)
    · show gK (newG (setI G 124 h 12) 109 16 h 16) h = 12 ∨ gK (newG (setI G 124 h 12) 109 16 h 16) h = 14
      rw [gK_old (by show h ≠ gn G; omega)]
      exact hk
    · show h < gn G + 1; omega
    · show gn G < gn G + 1; omega
    · exact ((hz (gn G) (Nat.le_refl _)).2.2 i).2
    · exact hI_at
    · show fI (setI G 124 h 12) 122 h = fI G 122 h
      exact hI_ne (Or.inl (by decide))
/-- appending to a chain -/
theorem Chn.snoc {G G' : GH} {x : Nat} : ∀ (l : List Nat) (r : Option Nat), Chn G r l → (hl : l ≠ []) → (∀ a ∈ l, a ≠ l.getLast hl → fR G' 146 a = fR G 146 a) → fR G' 146 (l.getLast hl) = some x → fR G' 146 x = none → l.Nodup → Chn G' r (l ++ [x]) := by
  intro l
  induction l with
  | nil => intro r _ hl; exact absurd rfl hl
  | cons a l ih =>
    intro r h hl hs hg hx nd
    refine ⟨h.1, ?_⟩
    cases l with
    | nil => exact ⟨hg, hx⟩
    | cons b l =>
      obtain ⟨n1, n2⟩ := List.nodup_cons.mp nd
      have e : (a :: b :: l).getLast hl = (b :: l).getLast (by simp) := rfl
      rw [e] at hs hg
      have hab : a ≠ (b :: l).getLast (by simp) := fun z => n1 (z ▸ List.getLast_mem _)
      rw [hs a List.mem_cons_self hab]
      exact ih _ h.2 (by simp) (fun c hc hne => hs c (List.mem_cons_of_mem _ hc) hne) hg hx n2
/-- the room that a map's row may still take -/
def capM (G : GH) (h : Nat) : Nat := match fR G 120 h with
  | none => 0
  | some t => gL G t
def lvM (c : Nat) : Nat := if c = 0 then 3 else if c = 16 then 2 else if c = 32 then 1 else 0
/-- N cells and S slots at most, beside what the row of the map h takes -/
def Rm (N S : Nat) (G G' : GH) (h : Nat) : Prop := gn G' + lvM (capM G' h) ≤ gn G + lvM (capM G h) + N ∧ gs G' + 2 * (64 - capM G' h) ≤ gs G + 2 * (64 - capM G h) + S
theorem HM.cap {G : GH} {h t cap : Nat} {bins : Nat → List Nat} (H : HM G h t cap bins) : capM G h = cap := by
  unfold capM
  rw [H.2.2.1]
  exact H.2.2.2.2.1
theorem capM_0 {G : GH} {h : Nat} (e : fR G 120 h = none) : capM G h = 0 := by
  unfold capM
  rw [e]
theorem capM_md {P : Nat → Prop} {G G' : GH} {h n : Nat} {N : Nat → Prop} (M : MapN G h n N) (m : Md P G G') (e : fR G' 120 h = fR G 120 h) : capM G' h = capM G h := by
  obtain ⟨-, -, -, M4⟩ := M
  rcases M4 with ⟨a1, -⟩ | ⟨t, cap, bins, H, -⟩
  · rw [capM_0 a1, capM_0 (e.trans a1)]
  · rw [H.cap]
    unfold capM
    rw [e, H.2.2.1]
    exact (m.l H.2.2.2.2.2.2.1).trans H.2.2.2.2.1
/-- what a resize must do -/
def RzOK (Z : ZT) (d : Nat) (h : Nat) : Prop := ∀ (G : GH) (Q : TR → GH → Prop) (t cap n : Nat) (bins : Nat → List Nat) (N : Nat → Prop), HM G h t cap bins → cap < 64 → fI G 122 h = (n : Int) → n ≤ 2 * (3 * cap / 4) → fI G 124 h = ((3 * cap / 4 : Nat) : Int) → (∀ a, N a ↔ ∃ i, i < cap ∧ a ∈ bins i) → (∀ a b, N a → N b → fI G 143 a = fI G 143 b → a = b) → (∀ i, i < cap → (bins i).Nodup) → Fz G →
  (∀ (G' : GH) (u : Option Nat), Md (Ow G h) G G' → gn G' = gn G + 1 → gs G' = gs G + 2 * cap → capM G' h = 2 * cap → MapN G' h n N → (∀ a, N a → fI G' 143 a = fI G 143 a ∧ fR G' 144 a = fR G 144 a ∧ fR G' 145 a = fR G 145 a) → (Lnk G h → Lnk G' h) → Q (.inl (some (tR u))) G') → TC Z d mi_J1_resize [tR (some h)] G Q
theorem bin16 {cap : Nat} (h : cap = 16 ∨ cap = 32 ∨ cap = 64) {x y : Int} (e : binOf cap x = binOf cap y) : binOf 16 x = binOf 16 y := by
  have key : ∀ (c : Nat) (z : Int), c < 2 ^ 31 → (iand (c : Int) z).toNat = c &&& (Int32.ofInt z).toBitVec.toNat := by
    intro c z hc
    unfold iand
    rw [← Int32.toInt_toBitVec, Int32.toBitVec_and]
    have hb : ((Int32.ofInt (c : Int)).toBitVec &&& (Int32.ofInt z).toBitVec).toNat = c &&& (Int32.ofInt z).toBitVec.toNat := by
      rw [BitVec.toNat_and]
      congr 1
      show (BitVec.ofInt 32 (c : Int)).toNat = c
      rw [BitVec.toNat_ofInt]
      omega
    rw [BitVec.toInt_eq_toNat_of_lt]
    · rw [hb]; rfl
    · rw [hb]
      have : c &&& (Int32.ofInt z).toBitVec.toNat ≤ c := Nat.and_le_left
      omega
  have red : ∀ (c : Nat) (z : Int), (c = 16 ∨ c = 32 ∨ c = 64) → binOf c z = (Int32.ofInt z).toBitVec.toNat % c := by
    intro c z hc
    unfold binOf
    have e1 : ((c : Int) - 1) = ((c - 1 : Nat) : Int) := by omega
    rw [e1, key (c - 1) z (by omega), Nat.and_comm]
    rcases hc with rfl | rfl | rfl
    · exact Nat.and_two_pow_sub_one_eq_mod _ 4
    · exact Nat.and_two_pow_sub_one_eq_mod _ 5
    · exact Nat.and_two_pow_sub_one_eq_mod _ 6
  rw [red cap x h, red cap y h] at e
  rw [red 16 x (Or.inl rfl), red 16 y (Or.inl rfl)]
  rcases h with rfl | rfl | rfl <;> omega
